/-! contracts of methods, printed by gen/snd.py -/
set_option maxRecDepth 100000
set_option maxHeartbeats 4000000
theorem hX43_make (n : Nat) : fe_H (sX43_make FX36_p (FX35_read n) FX103_ofB) cX43_make [0] fe_ki [] 20 (fun _ => dX43_make (FX43_make_0 n)) := by
  intro j pc L st M r hc h
  rcases fe_mem_c hc with rfl | hc
  · obtain ⟨w0, m0, h⟩ := fe_lR_d h
    obtain ⟨w1, m1, h⟩ := fe_lI_d h
    obtain ⟨rfl, hz⟩ := fe_t0_d h
    exact ⟨[(0, .ref w0), (1, .int w1)], (fe_cs m0 (fe_cs m1 fe_nl)), Or.inr ((bX43_make_0 FX36_p (FX35_read n) FX103_ofB (FX43_make_0 n ) w0 w1 M).symm.trans hz)⟩
  exact fe_mem_0 hc
theorem vX43_make (n : Nat) : fe_SB (sX43_make FX36_p (FX35_read n) FX103_ofB) := by
  refine ⟨?_, ?_, ?_, ?_⟩
  · intro i As M r h
    exact fe_no h
  · intro i As M r h
    rcases fe_bc h with h | h
    · obtain ⟨v0, t0, rfl, g0⟩ := fe_tI_d h
      obtain ⟨rfl, hz⟩ := fe_t0_d g0
      exact mX36_p v0 M r hz
    rcases fe_bc h with h | h
    · obtain ⟨v0, t0, rfl, g0⟩ := fe_tR_d h
      obtain ⟨v1, t1, rfl, g1⟩ := fe_tI_d g0
      obtain ⟨rfl, hz⟩ := fe_t0_d g1
      exact mX35_read n v0 v1 M r hz
    rcases fe_bc h with h | h
    · obtain ⟨v0, t0, rfl, g0⟩ := fe_tI_d h
      obtain ⟨v1, t1, rfl, g1⟩ := fe_tI_d g0
      obtain ⟨v2, t2, rfl, g2⟩ := fe_tI_d g1
      obtain ⟨v3, t3, rfl, g3⟩ := fe_tI_d g2
      obtain ⟨rfl, hz⟩ := fe_t0_d g3
      exact mX103_ofB v0 v1 v2 v3 M r hz
    exact fe_no h
  · intro i As M r h
    exact fe_no h
  · intro i As M r h
    exact fe_no h
theorem eX43_make (g0 : Nat → Int32 → FM → Option (Int32 × FM)) (a0 : Nat) (a1 : Int32) (M : FM) : dX43_make g0 0 [(0, .ref a0), (1, .int a1)] [] M = g0 a0 a1 M := by rfl
theorem mX43_make (n : Nat) (a0 : Nat) (a1 : Int32) (M : FM) (r : Int32 × FM) (h : FX43_make n a0 a1 M = some r) : fm_nx M ≤ fm_nx r.2 ∧ fm_ns M ≤ fm_ns r.2 :=
  fe_mono (L0 := [(0, .ref a0), (1, .int a1)]) (vX43_make n) (by decide +kernel) (hX43_make n) (fe_ki_k r) 0 rfl ((eX43_make (FX43_make_0 n ) a0 a1 M).trans h)
theorem zX43_make {s0 : State} {H0 : Heap} {oa : Nat → Nat} {D : va_G} (K : fk s0 H0 oa D) (l : Launch) (n : Nat) (a0 : Nat) (a1 : Int32) (M : FM) (r : Int32 × FM) (h : FX43_make n a0 a1 M = some r) : fs_Con (fk_E s0 H0 oa D) l 3 ⟨"BoardMachine$Halves$Branch", "make", "(I)I"⟩ prog_45_method_2_code 2 (Option.some Jvm.ClassFile.FieldType.int) [.ref a0, .int a1] M (some (.int r.1)) r.2 := by
  have o0 : fs_OS (sX43_make FX36_p (FX35_read n) FX103_ofB) 0 1 (fs_Con (fk_E s0 H0 oa D) l 2 ⟨"BoardMachine$Halves$Line", "p", "(I)I"⟩ prog_49_method_4_code 1 (Option.some Jvm.ClassFile.FieldType.int)) := by
    intro As M r h
    obtain ⟨v0, t0, rfl, g0⟩ := fe_tI_d h
    obtain ⟨rfl, hz⟩ := fe_t0_d g0
    exact zX36_p K l v0 M r hz
  have o1 : fs_OS (sX43_make FX36_p (FX35_read n) FX103_ofB) 1 1 (fs_Con (fk_E s0 H0 oa D) l 2 ⟨"BoardMachine$Halves$Layout", "read", "(I)I"⟩ prog_48_method_2_code 4 (Option.some Jvm.ClassFile.FieldType.int)) := by
    intro As M r h
    obtain ⟨v0, t0, rfl, g0⟩ := fe_tR_d h
    obtain ⟨v1, t1, rfl, g1⟩ := fe_tI_d g0
    obtain ⟨rfl, hz⟩ := fe_t0_d g1
    exact zX35_read K l n v0 v1 M r hz
  have o2 : fs_OS (sX43_make FX36_p (FX35_read n) FX103_ofB) 2 1 (fs_Con (fk_E s0 H0 oa D) l 2 ⟨"BoardMachine$Halves$Words", "ofB", "(IIII)I"⟩ prog_56_method_7_code 4 (Option.some Jvm.ClassFile.FieldType.int)) := by
    intro As M r h
    obtain ⟨v0, t0, rfl, g0⟩ := fe_tI_d h
    obtain ⟨v1, t1, rfl, g1⟩ := fe_tI_d g0
    obtain ⟨v2, t2, rfl, g2⟩ := fe_tI_d g1
    obtain ⟨v3, t3, rfl, g3⟩ := fe_tI_d g2
    obtain ⟨rfl, hz⟩ := fe_t0_d g3
    exact zX103_ofB K l v0 v1 v2 v3 M r hz
  refine fs_method (own := "BoardMachine$Halves$Branch") rfl (by decide) K.2.1 (by rw [fe_slen]; exact (Nat.le_of_ble_eq_true rfl)) (mX43_make n a0 a1 M r h) (hX43_make n) 0 rfl (L0 := [(0, .ref a0), (1, .int a1)]) (fun E => fe_args_e E [.ref a0, .int a1] 0) ((eX43_make (FX43_make_0 n ) a0 a1 M).trans h) (fe_ki_k r) (fun H hR => fs_nr_o (by decide) (by decide)) ?_
  intro p e s m args below meth c Q C hnm
  have hw : s0.WarmedH s.vm := C.2.2.2.2.1
  refine fe_all C fk_hwr cX43_make [1, 8, 13, 17, 20] (by decide +kernel) (fe_fil (cps := [(1, 4, .getfield 537051312), (8, 11, .invokestatic 5), (13, 16, .getfield 541245618), (17, 20, .invokevirtual 76589098), (20, 23, .invokestatic 145)]) (by decide +kernel) ?_)
  refine fs_c1 (fs_getf (pc := 1) (n := 537051312) (idx := 7) (ref := "BoardMachine$Halves$Branch") (O := "BoardMachine$Halves$Line") (name := "top") (desc := "I") C (by decide +kernel) (Or.inl (kw K hw q1102)) (fs_sameF (kw (args := args) K hw q1103)) (Nat.le_of_ble_eq_true rfl) (Nat.le_of_ble_eq_true rfl) (fs_one (⟨_, ff_44_128 s0 H0 oa D⟩))) ?_
  refine fs_c1 (fs_inv_static (pc := 8) (n := 5) C (fs_lk_staticU (idx := 13) (x := ⟨"BoardMachine$Halves$Branch", "p", "(I)I"⟩) (owner := "BoardMachine$Halves$Line") (bytes := prog_49_method_4_code) (maxL := 1) (rt := (Option.some Jvm.ClassFile.FieldType.int)) (d := 2) C (by decide +kernel) (kw K hw q3121) (kw K hw q347) (kw K hw q3120) (kw K hw q3137) (kw K hw q3138) ⟨by decide, by decide⟩ rfl (Nat.le_of_ble_eq_true rfl) (Nat.le_of_ble_eq_true rfl)) fs_con_mono o0) ?_
  refine fs_c1 (fs_getf (pc := 13) (n := 541245618) (idx := 17) (ref := "BoardMachine$Halves$Branch") (O := "BoardMachine$Halves$Line") (name := "layout") (desc := "LBoardMachine$Halves$Layout;") C (by decide +kernel) (Or.inl (kw K hw q1116)) (fs_sameF (kw (args := args) K hw q1117)) (Nat.le_of_ble_eq_true rfl) (Nat.le_of_ble_eq_true rfl) (fs_one (⟨_, ff_44_129 s0 H0 oa D⟩))) ?_
  refine fs_c1 (fs_inv_virtual (pc := 17) (n := 76589098) C (Nat.le_of_ble_eq_true rfl) (Nat.le_of_ble_eq_true rfl) (fs_lk_virtual (idx := 21) (y := ⟨"BoardMachine$Halves$Layout", "read", "(I)I"⟩) (bytes := prog_48_method_2_code) (maxL := 4) (rt := (Option.some Jvm.ClassFile.FieldType.int)) (d := 2) C (Nat.le_of_ble_eq_true rfl) (Nat.le_of_ble_eq_true rfl) (by decide +kernel) (kw K hw q3114) (kw K hw q346) (kw K hw q3112) (Or.inl (kw K hw q3139)) ⟨by decide, by decide⟩ rfl (Nat.le_of_ble_eq_true rfl) (Nat.le_of_ble_eq_true rfl) (fs_one (⟨_, rfl, kw K hw q3113⟩))) fs_con_mono o1) ?_
  refine fs_c1 (fs_inv_static (pc := 20) (n := 145) C (fs_lk_static (idx := 26) (y := ⟨"BoardMachine$Halves$Words", "ofB", "(IIII)I"⟩) (bytes := prog_56_method_7_code) (maxL := 4) (rt := (Option.some Jvm.ClassFile.FieldType.int)) (d := 2) C (by decide +kernel) (kw K hw q3142) (kw K hw q428) (kw K hw q3141) (Or.inl (kw K hw q3140)) ⟨by decide, by decide⟩ rfl (Nat.le_of_ble_eq_true rfl) (Nat.le_of_ble_eq_true rfl)) fs_con_mono o2) ?_
  exact fs_c0
theorem hX36_r : fe_H (sX36_r FX103_bits) cX36_r [0] fe_ki [] 20 (fun _ => dX36_r FX36_r_0) := by
  intro j pc L st M r hc h
  rcases fe_mem_c hc with rfl | hc
  · obtain ⟨w0, m0, h⟩ := fe_lI_d h
    obtain ⟨rfl, hz⟩ := fe_t0_d h
    exact ⟨[(0, .int w0)], (fe_cs m0 fe_nl), Or.inr ((bX36_r_0 FX103_bits FX36_r_0 w0 M).symm.trans hz)⟩
  exact fe_mem_0 hc
theorem vX36_r : fe_SB (sX36_r FX103_bits) := by
  refine ⟨?_, ?_, ?_, ?_⟩
  · intro i As M r h
    exact fe_no h
  · intro i As M r h
    rcases fe_bc h with h | h
    · obtain ⟨v0, t0, rfl, g0⟩ := fe_tI_d h
      obtain ⟨v1, t1, rfl, g1⟩ := fe_tI_d g0
      obtain ⟨v2, t2, rfl, g2⟩ := fe_tI_d g1
      obtain ⟨rfl, hz⟩ := fe_t0_d g2
      exact mX103_bits v0 v1 v2 M r hz
    exact fe_no h
  · intro i As M r h
    exact fe_no h
  · intro i As M r h
    exact fe_no h
theorem eX36_r (g0 : Int32 → FM → Option (Int32 × FM)) (a0 : Int32) (M : FM) : dX36_r g0 0 [(0, .int a0)] [] M = g0 a0 M := by rfl
theorem mX36_r (a0 : Int32) (M : FM) (r : Int32 × FM) (h : FX36_r a0 M = some r) : fm_nx M ≤ fm_nx r.2 ∧ fm_ns M ≤ fm_ns r.2 :=
  fe_mono (L0 := [(0, .int a0)]) (vX36_r) (by decide +kernel) (hX36_r) (fe_ki_k r) 0 rfl ((eX36_r FX36_r_0 a0 M).trans h)
theorem zX36_r {s0 : State} {H0 : Heap} {oa : Nat → Nat} {D : va_G} (K : fk s0 H0 oa D) (l : Launch) (a0 : Int32) (M : FM) (r : Int32 × FM) (h : FX36_r a0 M = some r) : fs_Con (fk_E s0 H0 oa D) l 2 ⟨"BoardMachine$Halves$Line", "\x72", "(I)I"⟩ prog_49_method_2_code 1 (Option.some Jvm.ClassFile.FieldType.int) [.int a0] M (some (.int r.1)) r.2 := by
  have o0 : fs_OS (sX36_r FX103_bits) 0 1 (fs_Con (fk_E s0 H0 oa D) l 1 ⟨"BoardMachine$Halves$Words", "bits", "(III)I"⟩ prog_56_method_2_code 3 (Option.some Jvm.ClassFile.FieldType.int)) := by
    intro As M r h
    obtain ⟨v0, t0, rfl, g0⟩ := fe_tI_d h
    obtain ⟨v1, t1, rfl, g1⟩ := fe_tI_d g0
    obtain ⟨v2, t2, rfl, g2⟩ := fe_tI_d g1
    obtain ⟨rfl, hz⟩ := fe_t0_d g2
    exact zX103_bits K l v0 v1 v2 M r hz
  refine fs_method (own := "BoardMachine$Halves$Line") rfl (by decide) K.2.1 (by rw [fe_slen]; exact (Nat.le_of_ble_eq_true rfl)) (mX36_r a0 M r h) (hX36_r) 0 rfl (L0 := [(0, .int a0)]) (fun E => fe_args_e E [.int a0] 0) ((eX36_r FX36_r_0 a0 M).trans h) (fe_ki_k r) (fun H hR => fs_nr_o (by decide) (by decide)) ?_
  intro p e s m args below meth c Q C hnm
  have hw : s0.WarmedH s.vm := C.2.2.2.2.1
  refine fe_all C fk_hwr cX36_r [5] (by decide +kernel) (fe_fil (cps := [(5, 8, .invokestatic 13)]) (by decide +kernel) ?_)
  refine fs_c1 (fs_inv_static (pc := 5) (n := 13) C (fs_lk_static (idx := 22) (y := ⟨"BoardMachine$Halves$Words", "bits", "(III)I"⟩) (bytes := prog_56_method_2_code) (maxL := 3) (rt := (Option.some Jvm.ClassFile.FieldType.int)) (d := 1) C (by decide +kernel) (kw K hw q3117) (kw K hw q428) (kw K hw q3116) (Or.inl (kw K hw q3122)) ⟨by decide, by decide⟩ rfl (Nat.le_of_ble_eq_true rfl) (Nat.le_of_ble_eq_true rfl)) fs_con_mono o0) ?_
  exact fs_c0
theorem hX39_make (n : Nat) : fe_H (sX39_make FX36_r (FX35_read n) FX103_ofI) cX39_make [0, 20, 47, 58] fe_ki [] 33 (fun _ => dX39_make (FX39_make_0 n) (FX39_make_20 n) (FX39_make_47 n) (FX39_make_58 n)) := by
  intro j pc L st M r hc h
  rcases fe_mem_c hc with rfl | hc
  · obtain ⟨w0, m0, h⟩ := fe_lR_d h
    obtain ⟨w1, m1, h⟩ := fe_lI_d h
    obtain ⟨rfl, hz⟩ := fe_t0_d h
    exact ⟨[(0, .ref w0), (1, .int w1)], (fe_cs m0 (fe_cs m1 fe_nl)), Or.inr ((bX39_make_0 FX36_r (FX35_read n) FX103_ofI (FX39_make_0 n ) (FX39_make_20 n ) (FX39_make_47 n ) (FX39_make_58 n ) w0 w1 M).symm.trans hz)⟩
  rcases fe_mem_c hc with rfl | hc
  · obtain ⟨w0, m0, h⟩ := fe_lR_d h
    obtain ⟨w1, m1, h⟩ := fe_lI_d h
    obtain ⟨rfl, hz⟩ := fe_t0_d h
    exact ⟨[(0, .ref w0), (1, .int w1)], (fe_cs m0 (fe_cs m1 fe_nl)), Or.inr ((bX39_make_20 FX36_r (FX35_read n) FX103_ofI (FX39_make_0 n ) (FX39_make_20 n ) (FX39_make_47 n ) (FX39_make_58 n ) w0 w1 M).symm.trans hz)⟩
  rcases fe_mem_c hc with rfl | hc
  · obtain ⟨w0, m0, h⟩ := fe_lR_d h
    obtain ⟨w1, m1, h⟩ := fe_lI_d h
    obtain ⟨s3, t3, rfl, g3⟩ := fe_tI_d h
    obtain ⟨s2, t2, rfl, g2⟩ := fe_tI_d g3
    obtain ⟨s1, t1, rfl, g1⟩ := fe_tI_d g2
    obtain ⟨s0, t0, rfl, g0⟩ := fe_tI_d g1
    obtain ⟨rfl, hz⟩ := fe_t0_d g0
    exact ⟨[(0, .ref w0), (1, .int w1)], (fe_cs m0 (fe_cs m1 fe_nl)), Or.inr ((bX39_make_47 FX36_r (FX35_read n) FX103_ofI (FX39_make_0 n ) (FX39_make_20 n ) (FX39_make_47 n ) (FX39_make_58 n ) w0 w1 s0 s1 s2 s3 M).symm.trans hz)⟩
  rcases fe_mem_c hc with rfl | hc
  · obtain ⟨s0, t0, rfl, g0⟩ := fe_tI_d h
    obtain ⟨rfl, hz⟩ := fe_t0_d g0
    exact ⟨[], fe_nl, Or.inr ((bX39_make_58 FX36_r (FX35_read n) FX103_ofI (FX39_make_0 n ) (FX39_make_20 n ) (FX39_make_47 n ) (FX39_make_58 n ) s0 M).symm.trans hz)⟩
  exact fe_mem_0 hc
theorem vX39_make (n : Nat) : fe_SB (sX39_make FX36_r (FX35_read n) FX103_ofI) := by
  refine ⟨?_, ?_, ?_, ?_⟩
  · intro i As M r h
    exact fe_no h
  · intro i As M r h
    rcases fe_bc h with h | h
    · obtain ⟨v0, t0, rfl, g0⟩ := fe_tI_d h
      obtain ⟨rfl, hz⟩ := fe_t0_d g0
      exact mX36_r v0 M r hz
    rcases fe_bc h with h | h
    · obtain ⟨v0, t0, rfl, g0⟩ := fe_tR_d h
      obtain ⟨v1, t1, rfl, g1⟩ := fe_tI_d g0
      obtain ⟨rfl, hz⟩ := fe_t0_d g1
      exact mX35_read n v0 v1 M r hz
    rcases fe_bc h with h | h
    · obtain ⟨v0, t0, rfl, g0⟩ := fe_tI_d h
      obtain ⟨v1, t1, rfl, g1⟩ := fe_tI_d g0
      obtain ⟨v2, t2, rfl, g2⟩ := fe_tI_d g1
      obtain ⟨v3, t3, rfl, g3⟩ := fe_tI_d g2
      obtain ⟨v4, t4, rfl, g4⟩ := fe_tI_d g3
      obtain ⟨rfl, hz⟩ := fe_t0_d g4
      exact mX103_ofI v0 v1 v2 v3 v4 M r hz
    exact fe_no h
  · intro i As M r h
    exact fe_no h
  · intro i As M r h
    exact fe_no h
theorem eX39_make (g0 : Nat → Int32 → FM → Option (Int32 × FM)) (g20 : Nat → Int32 → FM → Option (Int32 × FM)) (g47 : Nat → Int32 → Int32 → Int32 → Int32 → Int32 → FM → Option (Int32 × FM)) (g58 : Int32 → FM → Option (Int32 × FM)) (a0 : Nat) (a1 : Int32) (M : FM) : dX39_make g0 g20 g47 g58 0 [(0, .ref a0), (1, .int a1)] [] M = g0 a0 a1 M := by rfl
theorem mX39_make (n : Nat) (a0 : Nat) (a1 : Int32) (M : FM) (r : Int32 × FM) (h : FX39_make n a0 a1 M = some r) : fm_nx M ≤ fm_nx r.2 ∧ fm_ns M ≤ fm_ns r.2 :=
  fe_mono (L0 := [(0, .ref a0), (1, .int a1)]) (vX39_make n) (by decide +kernel) (hX39_make n) (fe_ki_k r) 0 rfl ((eX39_make (FX39_make_0 n ) (FX39_make_20 n ) (FX39_make_47 n ) (FX39_make_58 n ) a0 a1 M).trans h)
theorem zX39_make {s0 : State} {H0 : Heap} {oa : Nat → Nat} {D : va_G} (K : fk s0 H0 oa D) (l : Launch) (n : Nat) (a0 : Nat) (a1 : Int32) (M : FM) (r : Int32 × FM) (h : FX39_make n a0 a1 M = some r) : fs_Con (fk_E s0 H0 oa D) l 3 ⟨"BoardMachine$Halves$Immediate", "make", "(I)I"⟩ prog_46_method_2_code 2 (Option.some Jvm.ClassFile.FieldType.int) [.ref a0, .int a1] M (some (.int r.1)) r.2 := by
  have o0 : fs_OS (sX39_make FX36_r (FX35_read n) FX103_ofI) 0 1 (fs_Con (fk_E s0 H0 oa D) l 2 ⟨"BoardMachine$Halves$Line", "\x72", "(I)I"⟩ prog_49_method_2_code 1 (Option.some Jvm.ClassFile.FieldType.int)) := by
    intro As M r h
    obtain ⟨v0, t0, rfl, g0⟩ := fe_tI_d h
    obtain ⟨rfl, hz⟩ := fe_t0_d g0
    exact zX36_r K l v0 M r hz
  have o1 : fs_OS (sX39_make FX36_r (FX35_read n) FX103_ofI) 1 1 (fs_Con (fk_E s0 H0 oa D) l 2 ⟨"BoardMachine$Halves$Layout", "read", "(I)I"⟩ prog_48_method_2_code 4 (Option.some Jvm.ClassFile.FieldType.int)) := by
    intro As M r h
    obtain ⟨v0, t0, rfl, g0⟩ := fe_tR_d h
    obtain ⟨v1, t1, rfl, g1⟩ := fe_tI_d g0
    obtain ⟨rfl, hz⟩ := fe_t0_d g1
    exact zX35_read K l n v0 v1 M r hz
  have o2 : fs_OS (sX39_make FX36_r (FX35_read n) FX103_ofI) 2 1 (fs_Con (fk_E s0 H0 oa D) l 1 ⟨"BoardMachine$Halves$Words", "ofI", "(IIIII)I"⟩ prog_56_method_3_code 5 (Option.some Jvm.ClassFile.FieldType.int)) := by
    intro As M r h
    obtain ⟨v0, t0, rfl, g0⟩ := fe_tI_d h
    obtain ⟨v1, t1, rfl, g1⟩ := fe_tI_d g0
    obtain ⟨v2, t2, rfl, g2⟩ := fe_tI_d g1
    obtain ⟨v3, t3, rfl, g3⟩ := fe_tI_d g2
    obtain ⟨v4, t4, rfl, g4⟩ := fe_tI_d g3
    obtain ⟨rfl, hz⟩ := fe_t0_d g4
    exact zX103_ofI K l v0 v1 v2 v3 v4 M r hz
  refine fs_method (own := "BoardMachine$Halves$Immediate") rfl (by decide) K.2.1 (by rw [fe_slen]; exact (Nat.le_of_ble_eq_true rfl)) (mX39_make n a0 a1 M r h) (hX39_make n) 0 rfl (L0 := [(0, .ref a0), (1, .int a1)]) (fun E => fe_args_e E [.ref a0, .int a1] 0) ((eX39_make (FX39_make_0 n ) (FX39_make_20 n ) (FX39_make_47 n ) (FX39_make_58 n ) a0 a1 M).trans h) (fe_ki_k r) (fun H hR => fs_nr_o (by decide) (by decide)) ?_
  intro p e s m args below meth c Q C hnm
  have hw : s0.WarmedH s.vm := C.2.2.2.2.1
  refine fe_all C fk_hwr cX39_make [1, 10, 21, 25, 29, 33, 44, 48, 52, 55] (by decide +kernel) (fe_fil (cps := [(1, 4, .getfield 558026932), (10, 13, .invokestatic 5), (21, 24, .getfield 558026932), (25, 28, .invokestatic 5), (29, 32, .getfield 562221236), (33, 36, .getfield 566415543), (44, 47, .invokestatic 5), (48, 51, .getfield 541249718), (52, 55, .invokevirtual 76589098), (55, 58, .invokestatic 149)]) (by decide +kernel) ?_)
  refine fs_c1 (fs_getf (pc := 1) (n := 558026932) (idx := 7) (ref := "BoardMachine$Halves$Immediate") (O := "BoardMachine$Halves$Immediate") (name := "code") (desc := "I") C (by decide +kernel) (Or.inl (kw K hw q1158)) (fun _ h => h) (Nat.le_of_ble_eq_true rfl) (Nat.le_of_ble_eq_true rfl) (fs_one (⟨_, ff_45_133 s0 H0 oa D⟩))) ?_
  refine fs_c1 (fs_inv_static (pc := 10) (n := 5) C (fs_lk_staticU (idx := 20) (x := ⟨"BoardMachine$Halves$Immediate", "\x72", "(I)I"⟩) (owner := "BoardMachine$Halves$Line") (bytes := prog_49_method_2_code) (maxL := 1) (rt := (Option.some Jvm.ClassFile.FieldType.int)) (d := 2) C (by decide +kernel) (kw K hw q3149) (kw K hw q347) (kw K hw q3148) (kw K hw q3146) (kw K hw q3147) ⟨by decide, by decide⟩ rfl (Nat.le_of_ble_eq_true rfl) (Nat.le_of_ble_eq_true rfl)) fs_con_mono o0) ?_
  refine fs_c1 (fs_getf (pc := 21) (n := 558026932) (idx := 7) (ref := "BoardMachine$Halves$Immediate") (O := "BoardMachine$Halves$Immediate") (name := "code") (desc := "I") C (by decide +kernel) (Or.inl (kw K hw q1158)) (fun _ h => h) (Nat.le_of_ble_eq_true rfl) (Nat.le_of_ble_eq_true rfl) (fs_one (⟨_, ff_45_133 s0 H0 oa D⟩))) ?_
  refine fs_c1 (fs_inv_static (pc := 25) (n := 5) C (fs_lk_staticU (idx := 20) (x := ⟨"BoardMachine$Halves$Immediate", "\x72", "(I)I"⟩) (owner := "BoardMachine$Halves$Line") (bytes := prog_49_method_2_code) (maxL := 1) (rt := (Option.some Jvm.ClassFile.FieldType.int)) (d := 2) C (by decide +kernel) (kw K hw q3149) (kw K hw q347) (kw K hw q3148) (kw K hw q3146) (kw K hw q3147) ⟨by decide, by decide⟩ rfl (Nat.le_of_ble_eq_true rfl) (Nat.le_of_ble_eq_true rfl)) fs_con_mono o0) ?_
  refine fs_c1 (fs_getf (pc := 29) (n := 562221236) (idx := 13) (ref := "BoardMachine$Halves$Immediate") (O := "BoardMachine$Halves$Immediate") (name := "f") (desc := "I") C (by decide +kernel) (Or.inl (kw K hw q1159)) (fun _ h => h) (Nat.le_of_ble_eq_true rfl) (Nat.le_of_ble_eq_true rfl) (fs_one (⟨_, ff_45_134 s0 H0 oa D⟩))) ?_
  refine fs_c1 (fs_getf (pc := 33) (n := 566415543) (idx := 16) (ref := "BoardMachine$Halves$Immediate") (O := "BoardMachine$Halves$Immediate") (name := "ofZero") (desc := "Z") C (by decide +kernel) (Or.inl (kw K hw q1160)) (fun _ h => h) (Nat.le_of_ble_eq_true rfl) (Nat.le_of_ble_eq_true rfl) (fs_one (⟨_, ff_45_135 s0 H0 oa D⟩))) ?_
  refine fs_c1 (fs_inv_static (pc := 44) (n := 5) C (fs_lk_staticU (idx := 20) (x := ⟨"BoardMachine$Halves$Immediate", "\x72", "(I)I"⟩) (owner := "BoardMachine$Halves$Line") (bytes := prog_49_method_2_code) (maxL := 1) (rt := (Option.some Jvm.ClassFile.FieldType.int)) (d := 2) C (by decide +kernel) (kw K hw q3149) (kw K hw q347) (kw K hw q3148) (kw K hw q3146) (kw K hw q3147) ⟨by decide, by decide⟩ rfl (Nat.le_of_ble_eq_true rfl) (Nat.le_of_ble_eq_true rfl)) fs_con_mono o0) ?_
  refine fs_c1 (fs_getf (pc := 48) (n := 541249718) (idx := 24) (ref := "BoardMachine$Halves$Immediate") (O := "BoardMachine$Halves$Line") (name := "layout") (desc := "LBoardMachine$Halves$Layout;") C (by decide +kernel) (Or.inl (kw K hw q1120)) (fs_sameF (kw (args := args) K hw q1121)) (Nat.le_of_ble_eq_true rfl) (Nat.le_of_ble_eq_true rfl) (fs_one (⟨_, ff_45_129 s0 H0 oa D⟩))) ?_
  refine fs_c1 (fs_inv_virtual (pc := 52) (n := 76589098) C (Nat.le_of_ble_eq_true rfl) (Nat.le_of_ble_eq_true rfl) (fs_lk_virtual (idx := 28) (y := ⟨"BoardMachine$Halves$Layout", "read", "(I)I"⟩) (bytes := prog_48_method_2_code) (maxL := 4) (rt := (Option.some Jvm.ClassFile.FieldType.int)) (d := 2) C (Nat.le_of_ble_eq_true rfl) (Nat.le_of_ble_eq_true rfl) (by decide +kernel) (kw K hw q3114) (kw K hw q346) (kw K hw q3112) (Or.inl (kw K hw q3150)) ⟨by decide, by decide⟩ rfl (Nat.le_of_ble_eq_true rfl) (Nat.le_of_ble_eq_true rfl) (fs_one (⟨_, rfl, kw K hw q3113⟩))) fs_con_mono o1) ?_
  refine fs_c1 (fs_inv_static (pc := 55) (n := 149) C (fs_lk_static (idx := 33) (y := ⟨"BoardMachine$Halves$Words", "ofI", "(IIIII)I"⟩) (bytes := prog_56_method_3_code) (maxL := 5) (rt := (Option.some Jvm.ClassFile.FieldType.int)) (d := 1) C (by decide +kernel) (kw K hw q3133) (kw K hw q428) (kw K hw q3132) (Or.inl (kw K hw q3151)) ⟨by decide, by decide⟩ rfl (Nat.le_of_ble_eq_true rfl) (Nat.le_of_ble_eq_true rfl)) fs_con_mono o2) ?_
  exact fs_c0
theorem hX103_ofJ : fe_H (sX103_ofJ FX103_bits) cX103_ofJ [0] fe_ki [] 39 (fun _ => dX103_ofJ FX103_ofJ_0) := by
  intro j pc L st M r hc h
  rcases fe_mem_c hc with rfl | hc
  · obtain ⟨w0, m0, h⟩ := fe_lI_d h
    obtain ⟨w1, m1, h⟩ := fe_lI_d h
    obtain ⟨rfl, hz⟩ := fe_t0_d h
    exact ⟨[(0, .int w0), (1, .int w1)], (fe_cs m0 (fe_cs m1 fe_nl)), Or.inr ((bX103_ofJ_0 FX103_bits FX103_ofJ_0 w0 w1 M).symm.trans hz)⟩
  exact fe_mem_0 hc
theorem vX103_ofJ : fe_SB (sX103_ofJ FX103_bits) := by
  refine ⟨?_, ?_, ?_, ?_⟩
  · intro i As M r h
    exact fe_no h
  · intro i As M r h
    rcases fe_bc h with h | h
    · obtain ⟨v0, t0, rfl, g0⟩ := fe_tI_d h
      obtain ⟨v1, t1, rfl, g1⟩ := fe_tI_d g0
      obtain ⟨v2, t2, rfl, g2⟩ := fe_tI_d g1
      obtain ⟨rfl, hz⟩ := fe_t0_d g2
      exact mX103_bits v0 v1 v2 M r hz
    exact fe_no h
  · intro i As M r h
    exact fe_no h
  · intro i As M r h
    exact fe_no h
theorem eX103_ofJ (g0 : Int32 → Int32 → FM → Option (Int32 × FM)) (a0 : Int32) (a1 : Int32) (M : FM) : dX103_ofJ g0 0 [(0, .int a0), (1, .int a1)] [] M = g0 a0 a1 M := by rfl
theorem mX103_ofJ (a0 : Int32) (a1 : Int32) (M : FM) (r : Int32 × FM) (h : FX103_ofJ a0 a1 M = some r) : fm_nx M ≤ fm_nx r.2 ∧ fm_ns M ≤ fm_ns r.2 :=
  fe_mono (L0 := [(0, .int a0), (1, .int a1)]) (vX103_ofJ) (by decide +kernel) (hX103_ofJ) (fe_ki_k r) 0 rfl ((eX103_ofJ FX103_ofJ_0 a0 a1 M).trans h)
theorem zX103_ofJ {s0 : State} {H0 : Heap} {oa : Nat → Nat} {D : va_G} (K : fk s0 H0 oa D) (l : Launch) (a0 : Int32) (a1 : Int32) (M : FM) (r : Int32 × FM) (h : FX103_ofJ a0 a1 M = some r) : fs_Con (fk_E s0 H0 oa D) l 2 ⟨"BoardMachine$Halves$Words", "ofJ", "(II)I"⟩ prog_56_method_8_code 2 (Option.some Jvm.ClassFile.FieldType.int) [.int a0, .int a1] M (some (.int r.1)) r.2 := by
  have o0 : fs_OS (sX103_ofJ FX103_bits) 0 1 (fs_Con (fk_E s0 H0 oa D) l 1 ⟨"BoardMachine$Halves$Words", "bits", "(III)I"⟩ prog_56_method_2_code 3 (Option.some Jvm.ClassFile.FieldType.int)) := by
    intro As M r h
    obtain ⟨v0, t0, rfl, g0⟩ := fe_tI_d h
    obtain ⟨v1, t1, rfl, g1⟩ := fe_tI_d g0
    obtain ⟨v2, t2, rfl, g2⟩ := fe_tI_d g1
    obtain ⟨rfl, hz⟩ := fe_t0_d g2
    exact zX103_bits K l v0 v1 v2 M r hz
  refine fs_method (own := "BoardMachine$Halves$Words") rfl (by decide) K.2.1 (by rw [fe_slen]; exact (Nat.le_of_ble_eq_true rfl)) (mX103_ofJ a0 a1 M r h) (hX103_ofJ) 0 rfl (L0 := [(0, .int a0), (1, .int a1)]) (fun E => fe_args_e E [.int a0, .int a1] 0) ((eX103_ofJ FX103_ofJ_0 a0 a1 M).trans h) (fe_ki_k r) (fun H hR => fs_nr_o (by decide) (by decide)) ?_
  intro p e s m args below meth c Q C hnm
  have hw : s0.WarmedH s.vm := C.2.2.2.2.1
  refine fe_all C fk_hwr cX103_ofJ [12, 24, 35, 47] (by decide +kernel) (fe_fil (cps := [(12, 15, .invokestatic 13), (24, 27, .invokestatic 13), (35, 38, .invokestatic 13), (47, 50, .invokestatic 13)]) (by decide +kernel) ?_)
  refine fs_c1 (fs_inv_static (pc := 12) (n := 13) C (fs_lk_static (idx := 7) (y := ⟨"BoardMachine$Halves$Words", "bits", "(III)I"⟩) (bytes := prog_56_method_2_code) (maxL := 3) (rt := (Option.some Jvm.ClassFile.FieldType.int)) (d := 1) C (by decide +kernel) (kw K hw q3117) (kw K hw q428) (kw K hw q3116) (Or.inl (kw K hw q3130)) ⟨by decide, by decide⟩ rfl (Nat.le_of_ble_eq_true rfl) (Nat.le_of_ble_eq_true rfl)) fs_con_mono o0) ?_
  refine fs_c1 (fs_inv_static (pc := 24) (n := 13) C (fs_lk_static (idx := 7) (y := ⟨"BoardMachine$Halves$Words", "bits", "(III)I"⟩) (bytes := prog_56_method_2_code) (maxL := 3) (rt := (Option.some Jvm.ClassFile.FieldType.int)) (d := 1) C (by decide +kernel) (kw K hw q3117) (kw K hw q428) (kw K hw q3116) (Or.inl (kw K hw q3130)) ⟨by decide, by decide⟩ rfl (Nat.le_of_ble_eq_true rfl) (Nat.le_of_ble_eq_true rfl)) fs_con_mono o0) ?_
  refine fs_c1 (fs_inv_static (pc := 35) (n := 13) C (fs_lk_static (idx := 7) (y := ⟨"BoardMachine$Halves$Words", "bits", "(III)I"⟩) (bytes := prog_56_method_2_code) (maxL := 3) (rt := (Option.some Jvm.ClassFile.FieldType.int)) (d := 1) C (by decide +kernel) (kw K hw q3117) (kw K hw q428) (kw K hw q3116) (Or.inl (kw K hw q3130)) ⟨by decide, by decide⟩ rfl (Nat.le_of_ble_eq_true rfl) (Nat.le_of_ble_eq_true rfl)) fs_con_mono o0) ?_
  refine fs_c1 (fs_inv_static (pc := 47) (n := 13) C (fs_lk_static (idx := 7) (y := ⟨"BoardMachine$Halves$Words", "bits", "(III)I"⟩) (bytes := prog_56_method_2_code) (maxL := 3) (rt := (Option.some Jvm.ClassFile.FieldType.int)) (d := 1) C (by decide +kernel) (kw K hw q3117) (kw K hw q428) (kw K hw q3116) (Or.inl (kw K hw q3130)) ⟨by decide, by decide⟩ rfl (Nat.le_of_ble_eq_true rfl) (Nat.le_of_ble_eq_true rfl)) fs_con_mono o0) ?_
  exact fs_c0
theorem hX42_make (n : Nat) : fe_H (sX42_make (FX35_read n) FX103_ofJ) cX42_make [0] fe_ki [] 20 (fun _ => dX42_make (FX42_make_0 n)) := by
  intro j pc L st M r hc h
  rcases fe_mem_c hc with rfl | hc
  · obtain ⟨w0, m0, h⟩ := fe_lR_d h
    obtain ⟨w1, m1, h⟩ := fe_lI_d h
    obtain ⟨rfl, hz⟩ := fe_t0_d h
    exact ⟨[(0, .ref w0), (1, .int w1)], (fe_cs m0 (fe_cs m1 fe_nl)), Or.inr ((bX42_make_0 (FX35_read n) FX103_ofJ (FX42_make_0 n ) w0 w1 M).symm.trans hz)⟩
  exact fe_mem_0 hc
theorem vX42_make (n : Nat) : fe_SB (sX42_make (FX35_read n) FX103_ofJ) := by
  refine ⟨?_, ?_, ?_, ?_⟩
  · intro i As M r h
    exact fe_no h
  · intro i As M r h
    rcases fe_bc h with h | h
    · obtain ⟨v0, t0, rfl, g0⟩ := fe_tR_d h
      obtain ⟨v1, t1, rfl, g1⟩ := fe_tI_d g0
      obtain ⟨rfl, hz⟩ := fe_t0_d g1
      exact mX35_read n v0 v1 M r hz
    rcases fe_bc h with h | h
    · obtain ⟨v0, t0, rfl, g0⟩ := fe_tI_d h
      obtain ⟨v1, t1, rfl, g1⟩ := fe_tI_d g0
      obtain ⟨rfl, hz⟩ := fe_t0_d g1
      exact mX103_ofJ v0 v1 M r hz
    exact fe_no h
  · intro i As M r h
    exact fe_no h
  · intro i As M r h
    exact fe_no h
theorem eX42_make (g0 : Nat → Int32 → FM → Option (Int32 × FM)) (a0 : Nat) (a1 : Int32) (M : FM) : dX42_make g0 0 [(0, .ref a0), (1, .int a1)] [] M = g0 a0 a1 M := by rfl
theorem mX42_make (n : Nat) (a0 : Nat) (a1 : Int32) (M : FM) (r : Int32 × FM) (h : FX42_make n a0 a1 M = some r) : fm_nx M ≤ fm_nx r.2 ∧ fm_ns M ≤ fm_ns r.2 :=
  fe_mono (L0 := [(0, .ref a0), (1, .int a1)]) (vX42_make n) (by decide +kernel) (hX42_make n) (fe_ki_k r) 0 rfl ((eX42_make (FX42_make_0 n ) a0 a1 M).trans h)
theorem zX42_make {s0 : State} {H0 : Heap} {oa : Nat → Nat} {D : va_G} (K : fk s0 H0 oa D) (l : Launch) (n : Nat) (a0 : Nat) (a1 : Int32) (M : FM) (r : Int32 × FM) (h : FX42_make n a0 a1 M = some r) : fs_Con (fk_E s0 H0 oa D) l 3 ⟨"BoardMachine$Halves$Jump", "make", "(I)I"⟩ prog_47_method_2_code 2 (Option.some Jvm.ClassFile.FieldType.int) [.ref a0, .int a1] M (some (.int r.1)) r.2 := by
  have o0 : fs_OS (sX42_make (FX35_read n) FX103_ofJ) 0 1 (fs_Con (fk_E s0 H0 oa D) l 2 ⟨"BoardMachine$Halves$Layout", "read", "(I)I"⟩ prog_48_method_2_code 4 (Option.some Jvm.ClassFile.FieldType.int)) := by
    intro As M r h
    obtain ⟨v0, t0, rfl, g0⟩ := fe_tR_d h
    obtain ⟨v1, t1, rfl, g1⟩ := fe_tI_d g0
    obtain ⟨rfl, hz⟩ := fe_t0_d g1
    exact zX35_read K l n v0 v1 M r hz
  have o1 : fs_OS (sX42_make (FX35_read n) FX103_ofJ) 1 1 (fs_Con (fk_E s0 H0 oa D) l 2 ⟨"BoardMachine$Halves$Words", "ofJ", "(II)I"⟩ prog_56_method_8_code 2 (Option.some Jvm.ClassFile.FieldType.int)) := by
    intro As M r h
    obtain ⟨v0, t0, rfl, g0⟩ := fe_tI_d h
    obtain ⟨v1, t1, rfl, g1⟩ := fe_tI_d g0
    obtain ⟨rfl, hz⟩ := fe_t0_d g1
    exact zX103_ofJ K l v0 v1 M r hz
  refine fs_method (own := "BoardMachine$Halves$Jump") rfl (by decide) K.2.1 (by rw [fe_slen]; exact (Nat.le_of_ble_eq_true rfl)) (mX42_make n a0 a1 M r h) (hX42_make n) 0 rfl (L0 := [(0, .ref a0), (1, .int a1)]) (fun E => fe_args_e E [.ref a0, .int a1] 0) ((eX42_make (FX42_make_0 n ) a0 a1 M).trans h) (fe_ki_k r) (fun H hR => fs_nr_o (by decide) (by decide)) ?_
  intro p e s m args below meth c Q C hnm
  have hw : s0.WarmedH s.vm := C.2.2.2.2.1
  refine fe_all C fk_hwr cX42_make [2, 6, 9] (by decide +kernel) (fe_fil (cps := [(2, 5, .getfield 541253818), (6, 9, .invokevirtual 9480234), (9, 12, .invokestatic 73)]) (by decide +kernel) ?_)
  refine fs_c1 (fs_getf (pc := 2) (n := 541253818) (idx := 7) (ref := "BoardMachine$Halves$Jump") (O := "BoardMachine$Halves$Line") (name := "layout") (desc := "LBoardMachine$Halves$Layout;") C (by decide +kernel) (Or.inl (kw K hw q1112)) (fs_sameF (kw (args := args) K hw q1113)) (Nat.le_of_ble_eq_true rfl) (Nat.le_of_ble_eq_true rfl) (fs_one (⟨_, ff_46_129 s0 H0 oa D⟩))) ?_
  refine fs_c1 (fs_inv_virtual (pc := 6) (n := 9480234) C (Nat.le_of_ble_eq_true rfl) (Nat.le_of_ble_eq_true rfl) (fs_lk_virtual (idx := 13) (y := ⟨"BoardMachine$Halves$Layout", "read", "(I)I"⟩) (bytes := prog_48_method_2_code) (maxL := 4) (rt := (Option.some Jvm.ClassFile.FieldType.int)) (d := 2) C (Nat.le_of_ble_eq_true rfl) (Nat.le_of_ble_eq_true rfl) (by decide +kernel) (kw K hw q3114) (kw K hw q346) (kw K hw q3112) (Or.inl (kw K hw q3155)) ⟨by decide, by decide⟩ rfl (Nat.le_of_ble_eq_true rfl) (Nat.le_of_ble_eq_true rfl) (fs_one (⟨_, rfl, kw K hw q3113⟩))) fs_con_mono o0) ?_
  refine fs_c1 (fs_inv_static (pc := 9) (n := 73) C (fs_lk_static (idx := 19) (y := ⟨"BoardMachine$Halves$Words", "ofJ", "(II)I"⟩) (bytes := prog_56_method_8_code) (maxL := 2) (rt := (Option.some Jvm.ClassFile.FieldType.int)) (d := 2) C (by decide +kernel) (kw K hw q3158) (kw K hw q428) (kw K hw q3157) (Or.inl (kw K hw q3156)) ⟨by decide, by decide⟩ rfl (Nat.le_of_ble_eq_true rfl) (Nat.le_of_ble_eq_true rfl)) fs_con_mono o1) ?_
  exact fs_c0
theorem hX103_ofR : fe_H (sX103_ofR) cX103_ofR [0] fe_ki [] 27 (fun _ => dX103_ofR FX103_ofR_0) := by
  intro j pc L st M r hc h
  rcases fe_mem_c hc with rfl | hc
  · obtain ⟨w0, m0, h⟩ := fe_lI_d h
    obtain ⟨w1, m1, h⟩ := fe_lI_d h
    obtain ⟨w2, m2, h⟩ := fe_lI_d h
    obtain ⟨w3, m3, h⟩ := fe_lI_d h
    obtain ⟨w4, m4, h⟩ := fe_lI_d h
    obtain ⟨w5, m5, h⟩ := fe_lI_d h
    obtain ⟨rfl, hz⟩ := fe_t0_d h
    exact ⟨[(0, .int w0), (1, .int w1), (2, .int w2), (3, .int w3), (4, .int w4), (5, .int w5)], (fe_cs m0 (fe_cs m1 (fe_cs m2 (fe_cs m3 (fe_cs m4 (fe_cs m5 fe_nl)))))), Or.inr ((bX103_ofR_0 FX103_ofR_0 w0 w1 w2 w3 w4 w5 M).symm.trans hz)⟩
  exact fe_mem_0 hc
theorem vX103_ofR : fe_SB (sX103_ofR) := by
  refine ⟨?_, ?_, ?_, ?_⟩
  · intro i As M r h
    exact fe_no h
  · intro i As M r h
    exact fe_no h
  · intro i As M r h
    exact fe_no h
  · intro i As M r h
    exact fe_no h
theorem eX103_ofR (g0 : Int32 → Int32 → Int32 → Int32 → Int32 → Int32 → FM → Option (Int32 × FM)) (a0 : Int32) (a1 : Int32) (a2 : Int32) (a3 : Int32) (a4 : Int32) (a5 : Int32) (M : FM) : dX103_ofR g0 0 [(0, .int a0), (1, .int a1), (2, .int a2), (3, .int a3), (4, .int a4), (5, .int a5)] [] M = g0 a0 a1 a2 a3 a4 a5 M := by rfl
theorem mX103_ofR (a0 : Int32) (a1 : Int32) (a2 : Int32) (a3 : Int32) (a4 : Int32) (a5 : Int32) (M : FM) (r : Int32 × FM) (h : FX103_ofR a0 a1 a2 a3 a4 a5 M = some r) : fm_nx M ≤ fm_nx r.2 ∧ fm_ns M ≤ fm_ns r.2 :=
  fe_mono (L0 := [(0, .int a0), (1, .int a1), (2, .int a2), (3, .int a3), (4, .int a4), (5, .int a5)]) (vX103_ofR) (by decide +kernel) (hX103_ofR) (fe_ki_k r) 0 rfl ((eX103_ofR FX103_ofR_0 a0 a1 a2 a3 a4 a5 M).trans h)
theorem zX103_ofR {s0 : State} {H0 : Heap} {oa : Nat → Nat} {D : va_G} (K : fk s0 H0 oa D) (l : Launch) (a0 : Int32) (a1 : Int32) (a2 : Int32) (a3 : Int32) (a4 : Int32) (a5 : Int32) (M : FM) (r : Int32 × FM) (h : FX103_ofR a0 a1 a2 a3 a4 a5 M = some r) : fs_Con (fk_E s0 H0 oa D) l 1 ⟨"BoardMachine$Halves$Words", "ofR", "(IIIIII)I"⟩ prog_56_method_4_code 6 (Option.some Jvm.ClassFile.FieldType.int) [.int a0, .int a1, .int a2, .int a3, .int a4, .int a5] M (some (.int r.1)) r.2 := by
  refine fs_method (own := "BoardMachine$Halves$Words") rfl (by decide) K.2.1 (by rw [fe_slen]; exact (Nat.le_of_ble_eq_true rfl)) (mX103_ofR a0 a1 a2 a3 a4 a5 M r h) (hX103_ofR) 0 rfl (L0 := [(0, .int a0), (1, .int a1), (2, .int a2), (3, .int a3), (4, .int a4), (5, .int a5)]) (fun E => fe_args_e E [.int a0, .int a1, .int a2, .int a3, .int a4, .int a5] 0) ((eX103_ofR FX103_ofR_0 a0 a1 a2 a3 a4 a5 M).trans h) (fe_ki_k r) (fun H hR => fs_nr_o (by decide) (by decide)) ?_
  intro p e s m args below meth c Q C hnm
  have hw : s0.WarmedH s.vm := C.2.2.2.2.1
  refine fe_all C fk_hwr cX103_ofR [] (by decide +kernel) (fe_fil (cps := []) (by decide +kernel) ?_)
  exact fs_c0
theorem hX41_make (n : Nat) : fe_H (sX41_make FX103_bits FX36_p (FX35_read n) FX103_ofI FX36_s FX103_ofR) cX41_make [0, 143] fe_ki [] 89 (fun _ => dX41_make (FX41_make_0 n) (FX41_make_143 n)) := by
  intro j pc L st M r hc h
  rcases fe_mem_c hc with rfl | hc
  · obtain ⟨w0, m0, h⟩ := fe_lR_d h
    obtain ⟨w1, m1, h⟩ := fe_lI_d h
    obtain ⟨rfl, hz⟩ := fe_t0_d h
    exact ⟨[(0, .ref w0), (1, .int w1)], (fe_cs m0 (fe_cs m1 fe_nl)), Or.inr ((bX41_make_0 FX103_bits FX36_p (FX35_read n) FX103_ofI FX36_s FX103_ofR (FX41_make_0 n ) (FX41_make_143 n ) w0 w1 M).symm.trans hz)⟩
  rcases fe_mem_c hc with rfl | hc
  · obtain ⟨s0, t0, rfl, g0⟩ := fe_tI_d h
    obtain ⟨rfl, hz⟩ := fe_t0_d g0
    exact ⟨[], fe_nl, Or.inr ((bX41_make_143 FX103_bits FX36_p (FX35_read n) FX103_ofI FX36_s FX103_ofR (FX41_make_0 n ) (FX41_make_143 n ) s0 M).symm.trans hz)⟩
  exact fe_mem_0 hc
theorem vX41_make (n : Nat) : fe_SB (sX41_make FX103_bits FX36_p (FX35_read n) FX103_ofI FX36_s FX103_ofR) := by
  refine ⟨?_, ?_, ?_, ?_⟩
  · intro i As M r h
    exact fe_no h
  · intro i As M r h
    rcases fe_bc h with h | h
    · obtain ⟨v0, t0, rfl, g0⟩ := fe_tI_d h
      obtain ⟨v1, t1, rfl, g1⟩ := fe_tI_d g0
      obtain ⟨v2, t2, rfl, g2⟩ := fe_tI_d g1
      obtain ⟨rfl, hz⟩ := fe_t0_d g2
      exact mX103_bits v0 v1 v2 M r hz
    rcases fe_bc h with h | h
    · obtain ⟨v0, t0, rfl, g0⟩ := fe_tI_d h
      obtain ⟨rfl, hz⟩ := fe_t0_d g0
      exact mX36_p v0 M r hz
    rcases fe_bc h with h | h
    · obtain ⟨v0, t0, rfl, g0⟩ := fe_tR_d h
      obtain ⟨v1, t1, rfl, g1⟩ := fe_tI_d g0
      obtain ⟨rfl, hz⟩ := fe_t0_d g1
      exact mX35_read n v0 v1 M r hz
    rcases fe_bc h with h | h
    · obtain ⟨v0, t0, rfl, g0⟩ := fe_tI_d h
      obtain ⟨v1, t1, rfl, g1⟩ := fe_tI_d g0
      obtain ⟨v2, t2, rfl, g2⟩ := fe_tI_d g1
      obtain ⟨v3, t3, rfl, g3⟩ := fe_tI_d g2
      obtain ⟨v4, t4, rfl, g4⟩ := fe_tI_d g3
      obtain ⟨rfl, hz⟩ := fe_t0_d g4
      exact mX103_ofI v0 v1 v2 v3 v4 M r hz
    rcases fe_bc h with h | h
    · obtain ⟨v0, t0, rfl, g0⟩ := fe_tI_d h
      obtain ⟨rfl, hz⟩ := fe_t0_d g0
      exact mX36_s v0 M r hz
    rcases fe_bc h with h | h
    · obtain ⟨v0, t0, rfl, g0⟩ := fe_tI_d h
      obtain ⟨v1, t1, rfl, g1⟩ := fe_tI_d g0
      obtain ⟨v2, t2, rfl, g2⟩ := fe_tI_d g1
      obtain ⟨v3, t3, rfl, g3⟩ := fe_tI_d g2
      obtain ⟨v4, t4, rfl, g4⟩ := fe_tI_d g3
      obtain ⟨v5, t5, rfl, g5⟩ := fe_tI_d g4
      obtain ⟨rfl, hz⟩ := fe_t0_d g5
      exact mX103_ofR v0 v1 v2 v3 v4 v5 M r hz
    exact fe_no h
  · intro i As M r h
    exact fe_no h
  · intro i As M r h
    exact fe_no h
theorem eX41_make (g0 : Nat → Int32 → FM → Option (Int32 × FM)) (g143 : Int32 → FM → Option (Int32 × FM)) (a0 : Nat) (a1 : Int32) (M : FM) : dX41_make g0 g143 0 [(0, .ref a0), (1, .int a1)] [] M = g0 a0 a1 M := by rfl
theorem mX41_make (n : Nat) (a0 : Nat) (a1 : Int32) (M : FM) (r : Int32 × FM) (h : FX41_make n a0 a1 M = some r) : fm_nx M ≤ fm_nx r.2 ∧ fm_ns M ≤ fm_ns r.2 :=
  fe_mono (L0 := [(0, .ref a0), (1, .int a1)]) (vX41_make n) (by decide +kernel) (hX41_make n) (fe_ki_k r) 0 rfl ((eX41_make (FX41_make_0 n ) (FX41_make_143 n ) a0 a1 M).trans h)
theorem zX41_make {s0 : State} {H0 : Heap} {oa : Nat → Nat} {D : va_G} (K : fk s0 H0 oa D) (l : Launch) (n : Nat) (a0 : Nat) (a1 : Int32) (M : FM) (r : Int32 × FM) (h : FX41_make n a0 a1 M = some r) : fs_Con (fk_E s0 H0 oa D) l 3 ⟨"BoardMachine$Halves$Reckoning", "make", "(I)I"⟩ prog_50_method_2_code 4 (Option.some Jvm.ClassFile.FieldType.int) [.ref a0, .int a1] M (some (.int r.1)) r.2 := by
  have o0 : fs_OS (sX41_make FX103_bits FX36_p (FX35_read n) FX103_ofI FX36_s FX103_ofR) 0 1 (fs_Con (fk_E s0 H0 oa D) l 1 ⟨"BoardMachine$Halves$Words", "bits", "(III)I"⟩ prog_56_method_2_code 3 (Option.some Jvm.ClassFile.FieldType.int)) := by
    intro As M r h
    obtain ⟨v0, t0, rfl, g0⟩ := fe_tI_d h
    obtain ⟨v1, t1, rfl, g1⟩ := fe_tI_d g0
    obtain ⟨v2, t2, rfl, g2⟩ := fe_tI_d g1
    obtain ⟨rfl, hz⟩ := fe_t0_d g2
    exact zX103_bits K l v0 v1 v2 M r hz
  have o1 : fs_OS (sX41_make FX103_bits FX36_p (FX35_read n) FX103_ofI FX36_s FX103_ofR) 1 1 (fs_Con (fk_E s0 H0 oa D) l 2 ⟨"BoardMachine$Halves$Line", "p", "(I)I"⟩ prog_49_method_4_code 1 (Option.some Jvm.ClassFile.FieldType.int)) := by
    intro As M r h
    obtain ⟨v0, t0, rfl, g0⟩ := fe_tI_d h
    obtain ⟨rfl, hz⟩ := fe_t0_d g0
    exact zX36_p K l v0 M r hz
  have o2 : fs_OS (sX41_make FX103_bits FX36_p (FX35_read n) FX103_ofI FX36_s FX103_ofR) 2 1 (fs_Con (fk_E s0 H0 oa D) l 2 ⟨"BoardMachine$Halves$Layout", "read", "(I)I"⟩ prog_48_method_2_code 4 (Option.some Jvm.ClassFile.FieldType.int)) := by
    intro As M r h
    obtain ⟨v0, t0, rfl, g0⟩ := fe_tR_d h
    obtain ⟨v1, t1, rfl, g1⟩ := fe_tI_d g0
    obtain ⟨rfl, hz⟩ := fe_t0_d g1
    exact zX35_read K l n v0 v1 M r hz
  have o3 : fs_OS (sX41_make FX103_bits FX36_p (FX35_read n) FX103_ofI FX36_s FX103_ofR) 3 1 (fs_Con (fk_E s0 H0 oa D) l 1 ⟨"BoardMachine$Halves$Words", "ofI", "(IIIII)I"⟩ prog_56_method_3_code 5 (Option.some Jvm.ClassFile.FieldType.int)) := by
    intro As M r h
    obtain ⟨v0, t0, rfl, g0⟩ := fe_tI_d h
    obtain ⟨v1, t1, rfl, g1⟩ := fe_tI_d g0
    obtain ⟨v2, t2, rfl, g2⟩ := fe_tI_d g1
    obtain ⟨v3, t3, rfl, g3⟩ := fe_tI_d g2
    obtain ⟨v4, t4, rfl, g4⟩ := fe_tI_d g3
    obtain ⟨rfl, hz⟩ := fe_t0_d g4
    exact zX103_ofI K l v0 v1 v2 v3 v4 M r hz
  have o4 : fs_OS (sX41_make FX103_bits FX36_p (FX35_read n) FX103_ofI FX36_s FX103_ofR) 4 1 (fs_Con (fk_E s0 H0 oa D) l 2 ⟨"BoardMachine$Halves$Line", "s", "(I)I"⟩ prog_49_method_5_code 1 (Option.some Jvm.ClassFile.FieldType.int)) := by
    intro As M r h
    obtain ⟨v0, t0, rfl, g0⟩ := fe_tI_d h
    obtain ⟨rfl, hz⟩ := fe_t0_d g0
    exact zX36_s K l v0 M r hz
  have o5 : fs_OS (sX41_make FX103_bits FX36_p (FX35_read n) FX103_ofI FX36_s FX103_ofR) 5 1 (fs_Con (fk_E s0 H0 oa D) l 1 ⟨"BoardMachine$Halves$Words", "ofR", "(IIIIII)I"⟩ prog_56_method_4_code 6 (Option.some Jvm.ClassFile.FieldType.int)) := by
    intro As M r h
    obtain ⟨v0, t0, rfl, g0⟩ := fe_tI_d h
    obtain ⟨v1, t1, rfl, g1⟩ := fe_tI_d g0
    obtain ⟨v2, t2, rfl, g2⟩ := fe_tI_d g1
    obtain ⟨v3, t3, rfl, g3⟩ := fe_tI_d g2
    obtain ⟨v4, t4, rfl, g4⟩ := fe_tI_d g3
    obtain ⟨v5, t5, rfl, g5⟩ := fe_tI_d g4
    obtain ⟨rfl, hz⟩ := fe_t0_d g5
    exact zX103_ofR K l v0 v1 v2 v3 v4 v5 M r hz
  refine fs_method (own := "BoardMachine$Halves$Reckoning") rfl (by decide) K.2.1 (by rw [fe_slen]; exact (Nat.le_of_ble_eq_true rfl)) (mX41_make n a0 a1 M r h) (hX41_make n) 0 rfl (L0 := [(0, .ref a0), (1, .int a1)]) (fun E => fe_args_e E [.ref a0, .int a1] 0) ((eX41_make (FX41_make_0 n ) (FX41_make_143 n ) a0 a1 M).trans h) (fe_ki_k r) (fun H hR => fs_nr_o (by decide) (by decide)) ?_
  intro p e s m args below meth c Q C hnm
  have hw : s0.WarmedH s.vm := C.2.2.2.2.1
  refine fe_all C fk_hwr cX41_make [5, 17, 22, 26, 30, 39, 51, 57, 61, 65, 68, 79, 87, 95, 107, 113, 117, 125, 129, 133, 140] (by decide +kernel) (fe_fil (cps := [(5, 8, .invokestatic 13), (17, 20, .invokestatic 69), (22, 25, .invokestatic 69), (26, 29, .getfield 541257918), (30, 33, .invokevirtual 143697962), (39, 42, .invokestatic 213), (51, 54, .invokestatic 69), (57, 60, .invokestatic 69), (61, 64, .getfield 574812350), (65, 68, .invokevirtual 143697962), (68, 71, .invokestatic 213), (79, 82, .invokestatic 13), (87, 90, .invokestatic 13), (95, 98, .getfield 570618046), (107, 110, .getfield 570618046), (113, 116, .invokestatic 69), (117, 120, .getfield 570618046), (125, 128, .invokestatic 69), (129, 132, .invokestatic 261), (133, 136, .getfield 570618046), (140, 143, .invokestatic 345)]) (by decide +kernel) ?_)
  refine fs_c1 (fs_inv_static (pc := 5) (n := 13) C (fs_lk_static (idx := 17) (y := ⟨"BoardMachine$Halves$Words", "bits", "(III)I"⟩) (bytes := prog_56_method_2_code) (maxL := 3) (rt := (Option.some Jvm.ClassFile.FieldType.int)) (d := 1) C (by decide +kernel) (kw K hw q3117) (kw K hw q428) (kw K hw q3116) (Or.inl (kw K hw q3162)) ⟨by decide, by decide⟩ rfl (Nat.le_of_ble_eq_true rfl) (Nat.le_of_ble_eq_true rfl)) fs_con_mono o0) ?_
  refine fs_c1 (fs_inv_static (pc := 17) (n := 69) C (fs_lk_staticU (idx := 23) (x := ⟨"BoardMachine$Halves$Reckoning", "p", "(I)I"⟩) (owner := "BoardMachine$Halves$Line") (bytes := prog_49_method_4_code) (maxL := 1) (rt := (Option.some Jvm.ClassFile.FieldType.int)) (d := 2) C (by decide +kernel) (kw K hw q3121) (kw K hw q347) (kw K hw q3120) (kw K hw q3163) (kw K hw q3164) ⟨by decide, by decide⟩ rfl (Nat.le_of_ble_eq_true rfl) (Nat.le_of_ble_eq_true rfl)) fs_con_mono o1) ?_
  refine fs_c1 (fs_inv_static (pc := 22) (n := 69) C (fs_lk_staticU (idx := 23) (x := ⟨"BoardMachine$Halves$Reckoning", "p", "(I)I"⟩) (owner := "BoardMachine$Halves$Line") (bytes := prog_49_method_4_code) (maxL := 1) (rt := (Option.some Jvm.ClassFile.FieldType.int)) (d := 2) C (by decide +kernel) (kw K hw q3121) (kw K hw q347) (kw K hw q3120) (kw K hw q3163) (kw K hw q3164) ⟨by decide, by decide⟩ rfl (Nat.le_of_ble_eq_true rfl) (Nat.le_of_ble_eq_true rfl)) fs_con_mono o1) ?_
  refine fs_c1 (fs_getf (pc := 26) (n := 541257918) (idx := 27) (ref := "BoardMachine$Halves$Reckoning") (O := "BoardMachine$Halves$Line") (name := "layout") (desc := "LBoardMachine$Halves$Layout;") C (by decide +kernel) (Or.inl (kw K hw q1118)) (fs_sameF (kw (args := args) K hw q1119)) (Nat.le_of_ble_eq_true rfl) (Nat.le_of_ble_eq_true rfl) (fs_one (⟨_, ff_47_129 s0 H0 oa D⟩))) ?_
  refine fs_c1 (fs_inv_virtual (pc := 30) (n := 143697962) C (Nat.le_of_ble_eq_true rfl) (Nat.le_of_ble_eq_true rfl) (fs_lk_virtual (idx := 30) (y := ⟨"BoardMachine$Halves$Layout", "read", "(I)I"⟩) (bytes := prog_48_method_2_code) (maxL := 4) (rt := (Option.some Jvm.ClassFile.FieldType.int)) (d := 2) C (Nat.le_of_ble_eq_true rfl) (Nat.le_of_ble_eq_true rfl) (by decide +kernel) (kw K hw q3114) (kw K hw q346) (kw K hw q3112) (Or.inl (kw K hw q3165)) ⟨by decide, by decide⟩ rfl (Nat.le_of_ble_eq_true rfl) (Nat.le_of_ble_eq_true rfl) (fs_one (⟨_, rfl, kw K hw q3113⟩))) fs_con_mono o2) ?_
  refine fs_c1 (fs_inv_static (pc := 39) (n := 213) C (fs_lk_static (idx := 35) (y := ⟨"BoardMachine$Halves$Words", "ofI", "(IIIII)I"⟩) (bytes := prog_56_method_3_code) (maxL := 5) (rt := (Option.some Jvm.ClassFile.FieldType.int)) (d := 1) C (by decide +kernel) (kw K hw q3133) (kw K hw q428) (kw K hw q3132) (Or.inl (kw K hw q3166)) ⟨by decide, by decide⟩ rfl (Nat.le_of_ble_eq_true rfl) (Nat.le_of_ble_eq_true rfl)) fs_con_mono o3) ?_
  refine fs_c1 (fs_inv_static (pc := 51) (n := 69) C (fs_lk_staticU (idx := 23) (x := ⟨"BoardMachine$Halves$Reckoning", "p", "(I)I"⟩) (owner := "BoardMachine$Halves$Line") (bytes := prog_49_method_4_code) (maxL := 1) (rt := (Option.some Jvm.ClassFile.FieldType.int)) (d := 2) C (by decide +kernel) (kw K hw q3121) (kw K hw q347) (kw K hw q3120) (kw K hw q3163) (kw K hw q3164) ⟨by decide, by decide⟩ rfl (Nat.le_of_ble_eq_true rfl) (Nat.le_of_ble_eq_true rfl)) fs_con_mono o1) ?_
  refine fs_c1 (fs_inv_static (pc := 57) (n := 69) C (fs_lk_staticU (idx := 23) (x := ⟨"BoardMachine$Halves$Reckoning", "p", "(I)I"⟩) (owner := "BoardMachine$Halves$Line") (bytes := prog_49_method_4_code) (maxL := 1) (rt := (Option.some Jvm.ClassFile.FieldType.int)) (d := 2) C (by decide +kernel) (kw K hw q3121) (kw K hw q347) (kw K hw q3120) (kw K hw q3163) (kw K hw q3164) ⟨by decide, by decide⟩ rfl (Nat.le_of_ble_eq_true rfl) (Nat.le_of_ble_eq_true rfl)) fs_con_mono o1) ?_
  refine fs_c1 (fs_getf (pc := 61) (n := 574812350) (idx := 13) (ref := "BoardMachine$Halves$Reckoning") (O := "BoardMachine$Halves$Reckoning") (name := "signed") (desc := "LBoardMachine$Halves$Layout;") C (by decide +kernel) (Or.inl (kw K hw q1191)) (fun _ h => h) (Nat.le_of_ble_eq_true rfl) (Nat.le_of_ble_eq_true rfl) (fs_one (⟨_, ff_47_137 s0 H0 oa D⟩))) ?_
  refine fs_c1 (fs_inv_virtual (pc := 65) (n := 143697962) C (Nat.le_of_ble_eq_true rfl) (Nat.le_of_ble_eq_true rfl) (fs_lk_virtual (idx := 30) (y := ⟨"BoardMachine$Halves$Layout", "read", "(I)I"⟩) (bytes := prog_48_method_2_code) (maxL := 4) (rt := (Option.some Jvm.ClassFile.FieldType.int)) (d := 2) C (Nat.le_of_ble_eq_true rfl) (Nat.le_of_ble_eq_true rfl) (by decide +kernel) (kw K hw q3114) (kw K hw q346) (kw K hw q3112) (Or.inl (kw K hw q3165)) ⟨by decide, by decide⟩ rfl (Nat.le_of_ble_eq_true rfl) (Nat.le_of_ble_eq_true rfl) (fs_one (⟨_, rfl, kw K hw q3113⟩))) fs_con_mono o2) ?_
  refine fs_c1 (fs_inv_static (pc := 68) (n := 213) C (fs_lk_static (idx := 35) (y := ⟨"BoardMachine$Halves$Words", "ofI", "(IIIII)I"⟩) (bytes := prog_56_method_3_code) (maxL := 5) (rt := (Option.some Jvm.ClassFile.FieldType.int)) (d := 1) C (by decide +kernel) (kw K hw q3133) (kw K hw q428) (kw K hw q3132) (Or.inl (kw K hw q3166)) ⟨by decide, by decide⟩ rfl (Nat.le_of_ble_eq_true rfl) (Nat.le_of_ble_eq_true rfl)) fs_con_mono o3) ?_
  refine fs_c1 (fs_inv_static (pc := 79) (n := 13) C (fs_lk_static (idx := 17) (y := ⟨"BoardMachine$Halves$Words", "bits", "(III)I"⟩) (bytes := prog_56_method_2_code) (maxL := 3) (rt := (Option.some Jvm.ClassFile.FieldType.int)) (d := 1) C (by decide +kernel) (kw K hw q3117) (kw K hw q428) (kw K hw q3116) (Or.inl (kw K hw q3162)) ⟨by decide, by decide⟩ rfl (Nat.le_of_ble_eq_true rfl) (Nat.le_of_ble_eq_true rfl)) fs_con_mono o0) ?_
  refine fs_c1 (fs_inv_static (pc := 87) (n := 13) C (fs_lk_static (idx := 17) (y := ⟨"BoardMachine$Halves$Words", "bits", "(III)I"⟩) (bytes := prog_56_method_2_code) (maxL := 3) (rt := (Option.some Jvm.ClassFile.FieldType.int)) (d := 1) C (by decide +kernel) (kw K hw q3117) (kw K hw q428) (kw K hw q3116) (Or.inl (kw K hw q3162)) ⟨by decide, by decide⟩ rfl (Nat.le_of_ble_eq_true rfl) (Nat.le_of_ble_eq_true rfl)) fs_con_mono o0) ?_
  refine fs_c1 (fs_getf (pc := 95) (n := 570618046) (idx := 7) (ref := "BoardMachine$Halves$Reckoning") (O := "BoardMachine$Halves$Reckoning") (name := "sums") (desc := "[I") C (by decide +kernel) (Or.inl (kw K hw q1190)) (fun _ h => h) (Nat.le_of_ble_eq_true rfl) (Nat.le_of_ble_eq_true rfl) (fs_one (⟨_, ff_47_136 s0 H0 oa D⟩))) ?_
  refine fs_c1 (fs_getf (pc := 107) (n := 570618046) (idx := 7) (ref := "BoardMachine$Halves$Reckoning") (O := "BoardMachine$Halves$Reckoning") (name := "sums") (desc := "[I") C (by decide +kernel) (Or.inl (kw K hw q1190)) (fun _ h => h) (Nat.le_of_ble_eq_true rfl) (Nat.le_of_ble_eq_true rfl) (fs_one (⟨_, ff_47_136 s0 H0 oa D⟩))) ?_
  refine fs_c1 (fs_inv_static (pc := 113) (n := 69) C (fs_lk_staticU (idx := 23) (x := ⟨"BoardMachine$Halves$Reckoning", "p", "(I)I"⟩) (owner := "BoardMachine$Halves$Line") (bytes := prog_49_method_4_code) (maxL := 1) (rt := (Option.some Jvm.ClassFile.FieldType.int)) (d := 2) C (by decide +kernel) (kw K hw q3121) (kw K hw q347) (kw K hw q3120) (kw K hw q3163) (kw K hw q3164) ⟨by decide, by decide⟩ rfl (Nat.le_of_ble_eq_true rfl) (Nat.le_of_ble_eq_true rfl)) fs_con_mono o1) ?_
  refine fs_c1 (fs_getf (pc := 117) (n := 570618046) (idx := 7) (ref := "BoardMachine$Halves$Reckoning") (O := "BoardMachine$Halves$Reckoning") (name := "sums") (desc := "[I") C (by decide +kernel) (Or.inl (kw K hw q1190)) (fun _ h => h) (Nat.le_of_ble_eq_true rfl) (Nat.le_of_ble_eq_true rfl) (fs_one (⟨_, ff_47_136 s0 H0 oa D⟩))) ?_
  refine fs_c1 (fs_inv_static (pc := 125) (n := 69) C (fs_lk_staticU (idx := 23) (x := ⟨"BoardMachine$Halves$Reckoning", "p", "(I)I"⟩) (owner := "BoardMachine$Halves$Line") (bytes := prog_49_method_4_code) (maxL := 1) (rt := (Option.some Jvm.ClassFile.FieldType.int)) (d := 2) C (by decide +kernel) (kw K hw q3121) (kw K hw q347) (kw K hw q3120) (kw K hw q3163) (kw K hw q3164) ⟨by decide, by decide⟩ rfl (Nat.le_of_ble_eq_true rfl) (Nat.le_of_ble_eq_true rfl)) fs_con_mono o1) ?_
  refine fs_c1 (fs_inv_static (pc := 129) (n := 261) C (fs_lk_staticU (idx := 39) (x := ⟨"BoardMachine$Halves$Reckoning", "s", "(I)I"⟩) (owner := "BoardMachine$Halves$Line") (bytes := prog_49_method_5_code) (maxL := 1) (rt := (Option.some Jvm.ClassFile.FieldType.int)) (d := 2) C (by decide +kernel) (kw K hw q3126) (kw K hw q347) (kw K hw q3125) (kw K hw q3167) (kw K hw q3168) ⟨by decide, by decide⟩ rfl (Nat.le_of_ble_eq_true rfl) (Nat.le_of_ble_eq_true rfl)) fs_con_mono o4) ?_
  refine fs_c1 (fs_getf (pc := 133) (n := 570618046) (idx := 7) (ref := "BoardMachine$Halves$Reckoning") (O := "BoardMachine$Halves$Reckoning") (name := "sums") (desc := "[I") C (by decide +kernel) (Or.inl (kw K hw q1190)) (fun _ h => h) (Nat.le_of_ble_eq_true rfl) (Nat.le_of_ble_eq_true rfl) (fs_one (⟨_, ff_47_136 s0 H0 oa D⟩))) ?_
  refine fs_c1 (fs_inv_static (pc := 140) (n := 345) C (fs_lk_static (idx := 42) (y := ⟨"BoardMachine$Halves$Words", "ofR", "(IIIIII)I"⟩) (bytes := prog_56_method_4_code) (maxL := 6) (rt := (Option.some Jvm.ClassFile.FieldType.int)) (d := 1) C (by decide +kernel) (kw K hw q3171) (kw K hw q428) (kw K hw q3170) (Or.inl (kw K hw q3169)) ⟨by decide, by decide⟩ rfl (Nat.le_of_ble_eq_true rfl) (Nat.le_of_ble_eq_true rfl)) fs_con_mono o5) ?_
  exact fs_c0
theorem hX36_q : fe_H (sX36_q FX103_bits) cX36_q [0] fe_ki [] 20 (fun _ => dX36_q FX36_q_0) := by
  intro j pc L st M r hc h
  rcases fe_mem_c hc with rfl | hc
  · obtain ⟨w0, m0, h⟩ := fe_lI_d h
    obtain ⟨rfl, hz⟩ := fe_t0_d h
    exact ⟨[(0, .int w0)], (fe_cs m0 fe_nl), Or.inr ((bX36_q_0 FX103_bits FX36_q_0 w0 M).symm.trans hz)⟩
  exact fe_mem_0 hc
theorem vX36_q : fe_SB (sX36_q FX103_bits) := by
  refine ⟨?_, ?_, ?_, ?_⟩
  · intro i As M r h
    exact fe_no h
  · intro i As M r h
    rcases fe_bc h with h | h
    · obtain ⟨v0, t0, rfl, g0⟩ := fe_tI_d h
      obtain ⟨v1, t1, rfl, g1⟩ := fe_tI_d g0
      obtain ⟨v2, t2, rfl, g2⟩ := fe_tI_d g1
      obtain ⟨rfl, hz⟩ := fe_t0_d g2
      exact mX103_bits v0 v1 v2 M r hz
    exact fe_no h
  · intro i As M r h
    exact fe_no h
  · intro i As M r h
    exact fe_no h
theorem eX36_q (g0 : Int32 → FM → Option (Int32 × FM)) (a0 : Int32) (M : FM) : dX36_q g0 0 [(0, .int a0)] [] M = g0 a0 M := by rfl
theorem mX36_q (a0 : Int32) (M : FM) (r : Int32 × FM) (h : FX36_q a0 M = some r) : fm_nx M ≤ fm_nx r.2 ∧ fm_ns M ≤ fm_ns r.2 :=
  fe_mono (L0 := [(0, .int a0)]) (vX36_q) (by decide +kernel) (hX36_q) (fe_ki_k r) 0 rfl ((eX36_q FX36_q_0 a0 M).trans h)
theorem zX36_q {s0 : State} {H0 : Heap} {oa : Nat → Nat} {D : va_G} (K : fk s0 H0 oa D) (l : Launch) (a0 : Int32) (M : FM) (r : Int32 × FM) (h : FX36_q a0 M = some r) : fs_Con (fk_E s0 H0 oa D) l 2 ⟨"BoardMachine$Halves$Line", "q", "(I)I"⟩ prog_49_method_3_code 1 (Option.some Jvm.ClassFile.FieldType.int) [.int a0] M (some (.int r.1)) r.2 := by
  have o0 : fs_OS (sX36_q FX103_bits) 0 1 (fs_Con (fk_E s0 H0 oa D) l 1 ⟨"BoardMachine$Halves$Words", "bits", "(III)I"⟩ prog_56_method_2_code 3 (Option.some Jvm.ClassFile.FieldType.int)) := by
    intro As M r h
    obtain ⟨v0, t0, rfl, g0⟩ := fe_tI_d h
    obtain ⟨v1, t1, rfl, g1⟩ := fe_tI_d g0
    obtain ⟨v2, t2, rfl, g2⟩ := fe_tI_d g1
    obtain ⟨rfl, hz⟩ := fe_t0_d g2
    exact zX103_bits K l v0 v1 v2 M r hz
  refine fs_method (own := "BoardMachine$Halves$Line") rfl (by decide) K.2.1 (by rw [fe_slen]; exact (Nat.le_of_ble_eq_true rfl)) (mX36_q a0 M r h) (hX36_q) 0 rfl (L0 := [(0, .int a0)]) (fun E => fe_args_e E [.int a0] 0) ((eX36_q FX36_q_0 a0 M).trans h) (fe_ki_k r) (fun H hR => fs_nr_o (by decide) (by decide)) ?_
  intro p e s m args below meth c Q C hnm
  have hw : s0.WarmedH s.vm := C.2.2.2.2.1
  refine fe_all C fk_hwr cX36_q [4] (by decide +kernel) (fe_fil (cps := [(4, 7, .invokestatic 13)]) (by decide +kernel) ?_)
  refine fs_c1 (fs_inv_static (pc := 4) (n := 13) C (fs_lk_static (idx := 22) (y := ⟨"BoardMachine$Halves$Words", "bits", "(III)I"⟩) (bytes := prog_56_method_2_code) (maxL := 3) (rt := (Option.some Jvm.ClassFile.FieldType.int)) (d := 1) C (by decide +kernel) (kw K hw q3117) (kw K hw q428) (kw K hw q3116) (Or.inl (kw K hw q3122)) ⟨by decide, by decide⟩ rfl (Nat.le_of_ble_eq_true rfl) (Nat.le_of_ble_eq_true rfl)) fs_con_mono o0) ?_
  exact fs_c0
theorem hX44_make (n : Nat) : fe_H (sX44_make (FX35_read n) FX36_r FX36_q FX103_ofS FX103_ofI) cX44_make [0, 53, 70] fe_ki [] 42 (fun _ => dX44_make (FX44_make_0 n) (FX44_make_53 n) (FX44_make_70 n)) := by
  intro j pc L st M r hc h
  rcases fe_mem_c hc with rfl | hc
  · obtain ⟨w0, m0, h⟩ := fe_lR_d h
    obtain ⟨w1, m1, h⟩ := fe_lI_d h
    obtain ⟨rfl, hz⟩ := fe_t0_d h
    exact ⟨[(0, .ref w0), (1, .int w1)], (fe_cs m0 (fe_cs m1 fe_nl)), Or.inr ((bX44_make_0 (FX35_read n) FX36_r FX36_q FX103_ofS FX103_ofI (FX44_make_0 n ) (FX44_make_53 n ) (FX44_make_70 n ) w0 w1 M).symm.trans hz)⟩
  rcases fe_mem_c hc with rfl | hc
  · obtain ⟨w0, m0, h⟩ := fe_lR_d h
    obtain ⟨w1, m1, h⟩ := fe_lI_d h
    obtain ⟨w2, m2, h⟩ := fe_lI_d h
    obtain ⟨rfl, hz⟩ := fe_t0_d h
    exact ⟨[(0, .ref w0), (1, .int w1), (2, .int w2)], (fe_cs m0 (fe_cs m1 (fe_cs m2 fe_nl))), Or.inr ((bX44_make_53 (FX35_read n) FX36_r FX36_q FX103_ofS FX103_ofI (FX44_make_0 n ) (FX44_make_53 n ) (FX44_make_70 n ) w0 w1 w2 M).symm.trans hz)⟩
  rcases fe_mem_c hc with rfl | hc
  · obtain ⟨s0, t0, rfl, g0⟩ := fe_tI_d h
    obtain ⟨rfl, hz⟩ := fe_t0_d g0
    exact ⟨[], fe_nl, Or.inr ((bX44_make_70 (FX35_read n) FX36_r FX36_q FX103_ofS FX103_ofI (FX44_make_0 n ) (FX44_make_53 n ) (FX44_make_70 n ) s0 M).symm.trans hz)⟩
  exact fe_mem_0 hc
theorem vX44_make (n : Nat) : fe_SB (sX44_make (FX35_read n) FX36_r FX36_q FX103_ofS FX103_ofI) := by
  refine ⟨?_, ?_, ?_, ?_⟩
  · intro i As M r h
    exact fe_no h
  · intro i As M r h
    rcases fe_bc h with h | h
    · obtain ⟨v0, t0, rfl, g0⟩ := fe_tR_d h
      obtain ⟨v1, t1, rfl, g1⟩ := fe_tI_d g0
      obtain ⟨rfl, hz⟩ := fe_t0_d g1
      exact mX35_read n v0 v1 M r hz
    rcases fe_bc h with h | h
    · obtain ⟨v0, t0, rfl, g0⟩ := fe_tI_d h
      obtain ⟨rfl, hz⟩ := fe_t0_d g0
      exact mX36_r v0 M r hz
    rcases fe_bc h with h | h
    · obtain ⟨v0, t0, rfl, g0⟩ := fe_tI_d h
      obtain ⟨rfl, hz⟩ := fe_t0_d g0
      exact mX36_q v0 M r hz
    rcases fe_bc h with h | h
    · obtain ⟨v0, t0, rfl, g0⟩ := fe_tI_d h
      obtain ⟨v1, t1, rfl, g1⟩ := fe_tI_d g0
      obtain ⟨v2, t2, rfl, g2⟩ := fe_tI_d g1
      obtain ⟨v3, t3, rfl, g3⟩ := fe_tI_d g2
      obtain ⟨v4, t4, rfl, g4⟩ := fe_tI_d g3
      obtain ⟨rfl, hz⟩ := fe_t0_d g4
      exact mX103_ofS v0 v1 v2 v3 v4 M r hz
    rcases fe_bc h with h | h
    · obtain ⟨v0, t0, rfl, g0⟩ := fe_tI_d h
      obtain ⟨v1, t1, rfl, g1⟩ := fe_tI_d g0
      obtain ⟨v2, t2, rfl, g2⟩ := fe_tI_d g1
      obtain ⟨v3, t3, rfl, g3⟩ := fe_tI_d g2
      obtain ⟨v4, t4, rfl, g4⟩ := fe_tI_d g3
      obtain ⟨rfl, hz⟩ := fe_t0_d g4
      exact mX103_ofI v0 v1 v2 v3 v4 M r hz
    exact fe_no h
  · intro i As M r h
    exact fe_no h
  · intro i As M r h
    exact fe_no h
theorem eX44_make (g0 : Nat → Int32 → FM → Option (Int32 × FM)) (g53 : Nat → Int32 → Int32 → FM → Option (Int32 × FM)) (g70 : Int32 → FM → Option (Int32 × FM)) (a0 : Nat) (a1 : Int32) (M : FM) : dX44_make g0 g53 g70 0 [(0, .ref a0), (1, .int a1)] [] M = g0 a0 a1 M := by rfl
theorem mX44_make (n : Nat) (a0 : Nat) (a1 : Int32) (M : FM) (r : Int32 × FM) (h : FX44_make n a0 a1 M = some r) : fm_nx M ≤ fm_nx r.2 ∧ fm_ns M ≤ fm_ns r.2 :=
  fe_mono (L0 := [(0, .ref a0), (1, .int a1)]) (vX44_make n) (by decide +kernel) (hX44_make n) (fe_ki_k r) 0 rfl ((eX44_make (FX44_make_0 n ) (FX44_make_53 n ) (FX44_make_70 n ) a0 a1 M).trans h)
theorem zX44_make {s0 : State} {H0 : Heap} {oa : Nat → Nat} {D : va_G} (K : fk s0 H0 oa D) (l : Launch) (n : Nat) (a0 : Nat) (a1 : Int32) (M : FM) (r : Int32 × FM) (h : FX44_make n a0 a1 M = some r) : fs_Con (fk_E s0 H0 oa D) l 3 ⟨"BoardMachine$Halves$StackAccess", "make", "(I)I"⟩ prog_52_method_2_code 3 (Option.some Jvm.ClassFile.FieldType.int) [.ref a0, .int a1] M (some (.int r.1)) r.2 := by
  have o0 : fs_OS (sX44_make (FX35_read n) FX36_r FX36_q FX103_ofS FX103_ofI) 0 1 (fs_Con (fk_E s0 H0 oa D) l 2 ⟨"BoardMachine$Halves$Layout", "read", "(I)I"⟩ prog_48_method_2_code 4 (Option.some Jvm.ClassFile.FieldType.int)) := by
    intro As M r h
    obtain ⟨v0, t0, rfl, g0⟩ := fe_tR_d h
    obtain ⟨v1, t1, rfl, g1⟩ := fe_tI_d g0
    obtain ⟨rfl, hz⟩ := fe_t0_d g1
    exact zX35_read K l n v0 v1 M r hz
  have o1 : fs_OS (sX44_make (FX35_read n) FX36_r FX36_q FX103_ofS FX103_ofI) 1 1 (fs_Con (fk_E s0 H0 oa D) l 2 ⟨"BoardMachine$Halves$Line", "\x72", "(I)I"⟩ prog_49_method_2_code 1 (Option.some Jvm.ClassFile.FieldType.int)) := by
    intro As M r h
    obtain ⟨v0, t0, rfl, g0⟩ := fe_tI_d h
    obtain ⟨rfl, hz⟩ := fe_t0_d g0
    exact zX36_r K l v0 M r hz
  have o2 : fs_OS (sX44_make (FX35_read n) FX36_r FX36_q FX103_ofS FX103_ofI) 2 1 (fs_Con (fk_E s0 H0 oa D) l 2 ⟨"BoardMachine$Halves$Line", "q", "(I)I"⟩ prog_49_method_3_code 1 (Option.some Jvm.ClassFile.FieldType.int)) := by
    intro As M r h
    obtain ⟨v0, t0, rfl, g0⟩ := fe_tI_d h
    obtain ⟨rfl, hz⟩ := fe_t0_d g0
    exact zX36_q K l v0 M r hz
  have o3 : fs_OS (sX44_make (FX35_read n) FX36_r FX36_q FX103_ofS FX103_ofI) 3 1 (fs_Con (fk_E s0 H0 oa D) l 2 ⟨"BoardMachine$Halves$Words", "ofS", "(IIIII)I"⟩ prog_56_method_5_code 5 (Option.some Jvm.ClassFile.FieldType.int)) := by
    intro As M r h
    obtain ⟨v0, t0, rfl, g0⟩ := fe_tI_d h
    obtain ⟨v1, t1, rfl, g1⟩ := fe_tI_d g0
    obtain ⟨v2, t2, rfl, g2⟩ := fe_tI_d g1
    obtain ⟨v3, t3, rfl, g3⟩ := fe_tI_d g2
    obtain ⟨v4, t4, rfl, g4⟩ := fe_tI_d g3
    obtain ⟨rfl, hz⟩ := fe_t0_d g4
    exact zX103_ofS K l v0 v1 v2 v3 v4 M r hz
  have o4 : fs_OS (sX44_make (FX35_read n) FX36_r FX36_q FX103_ofS FX103_ofI) 4 1 (fs_Con (fk_E s0 H0 oa D) l 1 ⟨"BoardMachine$Halves$Words", "ofI", "(IIIII)I"⟩ prog_56_method_3_code 5 (Option.some Jvm.ClassFile.FieldType.int)) := by
    intro As M r h
    obtain ⟨v0, t0, rfl, g0⟩ := fe_tI_d h
    obtain ⟨v1, t1, rfl, g1⟩ := fe_tI_d g0
    obtain ⟨v2, t2, rfl, g2⟩ := fe_tI_d g1
    obtain ⟨v3, t3, rfl, g3⟩ := fe_tI_d g2
    obtain ⟨v4, t4, rfl, g4⟩ := fe_tI_d g3
    obtain ⟨rfl, hz⟩ := fe_t0_d g4
    exact zX103_ofI K l v0 v1 v2 v3 v4 M r hz
  refine fs_method (own := "BoardMachine$Halves$StackAccess") rfl (by decide) K.2.1 (by rw [fe_slen]; exact (Nat.le_of_ble_eq_true rfl)) (mX44_make n a0 a1 M r h) (hX44_make n) 0 rfl (L0 := [(0, .ref a0), (1, .int a1)]) (fun E => fe_args_e E [.ref a0, .int a1] 0) ((eX44_make (FX44_make_0 n ) (FX44_make_53 n ) (FX44_make_70 n ) a0 a1 M).trans h) (fe_ki_k r) (fun H hR => fs_nr_o (by decide) (by decide)) ?_
  intro p e s m args below meth c Q C hnm
  have hw : s0.WarmedH s.vm := C.2.2.2.2.1
  refine fe_all C fk_hwr cX44_make [1, 5, 10, 17, 21, 26, 30, 35, 43, 54, 58, 62, 67] (by decide +kernel) (fe_fil (cps := [(1, 4, .getfield 541262018), (5, 8, .invokevirtual 9480234), (10, 13, .getfield 587399363), (17, 20, .getfield 579010752), (21, 24, .getfield 583205056), (26, 29, .invokestatic 133), (30, 33, .invokestatic 213), (35, 38, .getfield 579010752), (43, 46, .invokestatic 69), (54, 57, .getfield 579010752), (58, 61, .invokestatic 69), (62, 65, .getfield 583205056), (67, 70, .invokestatic 277)]) (by decide +kernel) ?_)
  refine fs_c1 (fs_getf (pc := 1) (n := 541262018) (idx := 20) (ref := "BoardMachine$Halves$StackAccess") (O := "BoardMachine$Halves$Line") (name := "layout") (desc := "LBoardMachine$Halves$Layout;") C (by decide +kernel) (Or.inl (kw K hw q1108)) (fs_sameF (kw (args := args) K hw q1109)) (Nat.le_of_ble_eq_true rfl) (Nat.le_of_ble_eq_true rfl) (fs_one (⟨_, ff_48_129 s0 H0 oa D⟩))) ?_
  refine fs_c1 (fs_inv_virtual (pc := 5) (n := 9480234) C (Nat.le_of_ble_eq_true rfl) (Nat.le_of_ble_eq_true rfl) (fs_lk_virtual (idx := 24) (y := ⟨"BoardMachine$Halves$Layout", "read", "(I)I"⟩) (bytes := prog_48_method_2_code) (maxL := 4) (rt := (Option.some Jvm.ClassFile.FieldType.int)) (d := 2) C (Nat.le_of_ble_eq_true rfl) (Nat.le_of_ble_eq_true rfl) (by decide +kernel) (kw K hw q3114) (kw K hw q346) (kw K hw q3112) (Or.inl (kw K hw q3175)) ⟨by decide, by decide⟩ rfl (Nat.le_of_ble_eq_true rfl) (Nat.le_of_ble_eq_true rfl) (fs_one (⟨_, rfl, kw K hw q3113⟩))) fs_con_mono o0) ?_
  refine fs_c1 (fs_getf (pc := 10) (n := 587399363) (idx := 16) (ref := "BoardMachine$Halves$StackAccess") (O := "BoardMachine$Halves$StackAccess") (name := "stores") (desc := "Z") C (by decide +kernel) (Or.inl (kw K hw q1228)) (fun _ h => h) (Nat.le_of_ble_eq_true rfl) (Nat.le_of_ble_eq_true rfl) (fs_one (⟨_, ff_48_140 s0 H0 oa D⟩))) ?_
  refine fs_c1 (fs_getf (pc := 17) (n := 579010752) (idx := 7) (ref := "BoardMachine$Halves$StackAccess") (O := "BoardMachine$Halves$StackAccess") (name := "code") (desc := "I") C (by decide +kernel) (Or.inl (kw K hw q1226)) (fun _ h => h) (Nat.le_of_ble_eq_true rfl) (Nat.le_of_ble_eq_true rfl) (fs_one (⟨_, ff_48_138 s0 H0 oa D⟩))) ?_
  refine fs_c1 (fs_getf (pc := 21) (n := 583205056) (idx := 13) (ref := "BoardMachine$Halves$StackAccess") (O := "BoardMachine$Halves$StackAccess") (name := "f") (desc := "I") C (by decide +kernel) (Or.inl (kw K hw q1227)) (fun _ h => h) (Nat.le_of_ble_eq_true rfl) (Nat.le_of_ble_eq_true rfl) (fs_one (⟨_, ff_48_139 s0 H0 oa D⟩))) ?_
  refine fs_c1 (fs_inv_static (pc := 26) (n := 133) C (fs_lk_staticU (idx := 30) (x := ⟨"BoardMachine$Halves$StackAccess", "q", "(I)I"⟩) (owner := "BoardMachine$Halves$Line") (bytes := prog_49_method_3_code) (maxL := 1) (rt := (Option.some Jvm.ClassFile.FieldType.int)) (d := 2) C (by decide +kernel) (kw K hw q3179) (kw K hw q347) (kw K hw q3178) (kw K hw q3176) (kw K hw q3177) ⟨by decide, by decide⟩ rfl (Nat.le_of_ble_eq_true rfl) (Nat.le_of_ble_eq_true rfl)) fs_con_mono o2) ?_
  refine fs_c1 (fs_inv_static (pc := 30) (n := 213) C (fs_lk_static (idx := 33) (y := ⟨"BoardMachine$Halves$Words", "ofS", "(IIIII)I"⟩) (bytes := prog_56_method_5_code) (maxL := 5) (rt := (Option.some Jvm.ClassFile.FieldType.int)) (d := 2) C (by decide +kernel) (kw K hw q3129) (kw K hw q428) (kw K hw q3128) (Or.inl (kw K hw q3180)) ⟨by decide, by decide⟩ rfl (Nat.le_of_ble_eq_true rfl) (Nat.le_of_ble_eq_true rfl)) fs_con_mono o3) ?_
  refine fs_c1 (fs_getf (pc := 35) (n := 579010752) (idx := 7) (ref := "BoardMachine$Halves$StackAccess") (O := "BoardMachine$Halves$StackAccess") (name := "code") (desc := "I") C (by decide +kernel) (Or.inl (kw K hw q1226)) (fun _ h => h) (Nat.le_of_ble_eq_true rfl) (Nat.le_of_ble_eq_true rfl) (fs_one (⟨_, ff_48_138 s0 H0 oa D⟩))) ?_
  refine fs_c1 (fs_inv_static (pc := 43) (n := 69) C (fs_lk_staticU (idx := 39) (x := ⟨"BoardMachine$Halves$StackAccess", "\x72", "(I)I"⟩) (owner := "BoardMachine$Halves$Line") (bytes := prog_49_method_2_code) (maxL := 1) (rt := (Option.some Jvm.ClassFile.FieldType.int)) (d := 2) C (by decide +kernel) (kw K hw q3149) (kw K hw q347) (kw K hw q3148) (kw K hw q3181) (kw K hw q3182) ⟨by decide, by decide⟩ rfl (Nat.le_of_ble_eq_true rfl) (Nat.le_of_ble_eq_true rfl)) fs_con_mono o1) ?_
  refine fs_c1 (fs_getf (pc := 54) (n := 579010752) (idx := 7) (ref := "BoardMachine$Halves$StackAccess") (O := "BoardMachine$Halves$StackAccess") (name := "code") (desc := "I") C (by decide +kernel) (Or.inl (kw K hw q1226)) (fun _ h => h) (Nat.le_of_ble_eq_true rfl) (Nat.le_of_ble_eq_true rfl) (fs_one (⟨_, ff_48_138 s0 H0 oa D⟩))) ?_
  refine fs_c1 (fs_inv_static (pc := 58) (n := 69) C (fs_lk_staticU (idx := 39) (x := ⟨"BoardMachine$Halves$StackAccess", "\x72", "(I)I"⟩) (owner := "BoardMachine$Halves$Line") (bytes := prog_49_method_2_code) (maxL := 1) (rt := (Option.some Jvm.ClassFile.FieldType.int)) (d := 2) C (by decide +kernel) (kw K hw q3149) (kw K hw q347) (kw K hw q3148) (kw K hw q3181) (kw K hw q3182) ⟨by decide, by decide⟩ rfl (Nat.le_of_ble_eq_true rfl) (Nat.le_of_ble_eq_true rfl)) fs_con_mono o1) ?_
  refine fs_c1 (fs_getf (pc := 62) (n := 583205056) (idx := 13) (ref := "BoardMachine$Halves$StackAccess") (O := "BoardMachine$Halves$StackAccess") (name := "f") (desc := "I") C (by decide +kernel) (Or.inl (kw K hw q1227)) (fun _ h => h) (Nat.le_of_ble_eq_true rfl) (Nat.le_of_ble_eq_true rfl) (fs_one (⟨_, ff_48_139 s0 H0 oa D⟩))) ?_
  refine fs_c1 (fs_inv_static (pc := 67) (n := 277) C (fs_lk_static (idx := 42) (y := ⟨"BoardMachine$Halves$Words", "ofI", "(IIIII)I"⟩) (bytes := prog_56_method_3_code) (maxL := 5) (rt := (Option.some Jvm.ClassFile.FieldType.int)) (d := 1) C (by decide +kernel) (kw K hw q3133) (kw K hw q428) (kw K hw q3132) (Or.inl (kw K hw q3183)) ⟨by decide, by decide⟩ rfl (Nat.le_of_ble_eq_true rfl) (Nat.le_of_ble_eq_true rfl)) fs_con_mono o4) ?_
  exact fs_c0
theorem hX103_ofU : fe_H (sX103_ofU) cX103_ofU [0] fe_ki [] 20 (fun _ => dX103_ofU FX103_ofU_0) := by
  intro j pc L st M r hc h
  rcases fe_mem_c hc with rfl | hc
  · obtain ⟨w0, m0, h⟩ := fe_lI_d h
    obtain ⟨w1, m1, h⟩ := fe_lI_d h
    obtain ⟨w2, m2, h⟩ := fe_lI_d h
    obtain ⟨rfl, hz⟩ := fe_t0_d h
    exact ⟨[(0, .int w0), (1, .int w1), (2, .int w2)], (fe_cs m0 (fe_cs m1 (fe_cs m2 fe_nl))), Or.inr ((bX103_ofU_0 FX103_ofU_0 w0 w1 w2 M).symm.trans hz)⟩
  exact fe_mem_0 hc
theorem vX103_ofU : fe_SB (sX103_ofU) := by
  refine ⟨?_, ?_, ?_, ?_⟩
  · intro i As M r h
    exact fe_no h
  · intro i As M r h
    exact fe_no h
  · intro i As M r h
    exact fe_no h
  · intro i As M r h
    exact fe_no h
theorem eX103_ofU (g0 : Int32 → Int32 → Int32 → FM → Option (Int32 × FM)) (a0 : Int32) (a1 : Int32) (a2 : Int32) (M : FM) : dX103_ofU g0 0 [(0, .int a0), (1, .int a1), (2, .int a2)] [] M = g0 a0 a1 a2 M := by rfl
theorem mX103_ofU (a0 : Int32) (a1 : Int32) (a2 : Int32) (M : FM) (r : Int32 × FM) (h : FX103_ofU a0 a1 a2 M = some r) : fm_nx M ≤ fm_nx r.2 ∧ fm_ns M ≤ fm_ns r.2 :=
  fe_mono (L0 := [(0, .int a0), (1, .int a1), (2, .int a2)]) (vX103_ofU) (by decide +kernel) (hX103_ofU) (fe_ki_k r) 0 rfl ((eX103_ofU FX103_ofU_0 a0 a1 a2 M).trans h)
theorem zX103_ofU {s0 : State} {H0 : Heap} {oa : Nat → Nat} {D : va_G} (K : fk s0 H0 oa D) (l : Launch) (a0 : Int32) (a1 : Int32) (a2 : Int32) (M : FM) (r : Int32 × FM) (h : FX103_ofU a0 a1 a2 M = some r) : fs_Con (fk_E s0 H0 oa D) l 1 ⟨"BoardMachine$Halves$Words", "ofU", "(III)I"⟩ prog_56_method_6_code 3 (Option.some Jvm.ClassFile.FieldType.int) [.int a0, .int a1, .int a2] M (some (.int r.1)) r.2 := by
  refine fs_method (own := "BoardMachine$Halves$Words") rfl (by decide) K.2.1 (by rw [fe_slen]; exact (Nat.le_of_ble_eq_true rfl)) (mX103_ofU a0 a1 a2 M r h) (hX103_ofU) 0 rfl (L0 := [(0, .int a0), (1, .int a1), (2, .int a2)]) (fun E => fe_args_e E [.int a0, .int a1, .int a2] 0) ((eX103_ofU FX103_ofU_0 a0 a1 a2 M).trans h) (fe_ki_k r) (fun H hR => fs_nr_o (by decide) (by decide)) ?_
  intro p e s m args below meth c Q C hnm
  have hw : s0.WarmedH s.vm := C.2.2.2.2.1
  refine fe_all C fk_hwr cX103_ofU [] (by decide +kernel) (fe_fil (cps := []) (by decide +kernel) ?_)
  exact fs_c0
theorem hX40_make (n : Nat) : fe_H (sX40_make FX36_r (FX35_read n) FX103_ofI FX103_ofU) cX40_make [0, 34, 65] fe_ki [] 42 (fun _ => dX40_make (FX40_make_0 n) (FX40_make_34 n) (FX40_make_65 n)) := by
  intro j pc L st M r hc h
  rcases fe_mem_c hc with rfl | hc
  · obtain ⟨w0, m0, h⟩ := fe_lR_d h
    obtain ⟨w1, m1, h⟩ := fe_lI_d h
    obtain ⟨rfl, hz⟩ := fe_t0_d h
    exact ⟨[(0, .ref w0), (1, .int w1)], (fe_cs m0 (fe_cs m1 fe_nl)), Or.inr ((bX40_make_0 FX36_r (FX35_read n) FX103_ofI FX103_ofU (FX40_make_0 n ) (FX40_make_34 n ) (FX40_make_65 n ) w0 w1 M).symm.trans hz)⟩
  rcases fe_mem_c hc with rfl | hc
  · obtain ⟨s0, t0, rfl, g0⟩ := fe_tI_d h
    obtain ⟨rfl, hz⟩ := fe_t0_d g0
    exact ⟨[], fe_nl, Or.inr ((bX40_make_34 FX36_r (FX35_read n) FX103_ofI FX103_ofU (FX40_make_0 n ) (FX40_make_34 n ) (FX40_make_65 n ) s0 M).symm.trans hz)⟩
  rcases fe_mem_c hc with rfl | hc
  · obtain ⟨s0, t0, rfl, g0⟩ := fe_tI_d h
    obtain ⟨rfl, hz⟩ := fe_t0_d g0
    exact ⟨[], fe_nl, Or.inr ((bX40_make_65 FX36_r (FX35_read n) FX103_ofI FX103_ofU (FX40_make_0 n ) (FX40_make_34 n ) (FX40_make_65 n ) s0 M).symm.trans hz)⟩
  exact fe_mem_0 hc
theorem vX40_make (n : Nat) : fe_SB (sX40_make FX36_r (FX35_read n) FX103_ofI FX103_ofU) := by
  refine ⟨?_, ?_, ?_, ?_⟩
  · intro i As M r h
    exact fe_no h
  · intro i As M r h
    rcases fe_bc h with h | h
    · obtain ⟨v0, t0, rfl, g0⟩ := fe_tI_d h
      obtain ⟨rfl, hz⟩ := fe_t0_d g0
      exact mX36_r v0 M r hz
    rcases fe_bc h with h | h
    · obtain ⟨v0, t0, rfl, g0⟩ := fe_tR_d h
      obtain ⟨v1, t1, rfl, g1⟩ := fe_tI_d g0
      obtain ⟨rfl, hz⟩ := fe_t0_d g1
      exact mX35_read n v0 v1 M r hz
    rcases fe_bc h with h | h
    · obtain ⟨v0, t0, rfl, g0⟩ := fe_tI_d h
      obtain ⟨v1, t1, rfl, g1⟩ := fe_tI_d g0
      obtain ⟨v2, t2, rfl, g2⟩ := fe_tI_d g1
      obtain ⟨v3, t3, rfl, g3⟩ := fe_tI_d g2
      obtain ⟨v4, t4, rfl, g4⟩ := fe_tI_d g3
      obtain ⟨rfl, hz⟩ := fe_t0_d g4
      exact mX103_ofI v0 v1 v2 v3 v4 M r hz
    rcases fe_bc h with h | h
    · obtain ⟨v0, t0, rfl, g0⟩ := fe_tI_d h
      obtain ⟨v1, t1, rfl, g1⟩ := fe_tI_d g0
      obtain ⟨v2, t2, rfl, g2⟩ := fe_tI_d g1
      obtain ⟨rfl, hz⟩ := fe_t0_d g2
      exact mX103_ofU v0 v1 v2 M r hz
    exact fe_no h
  · intro i As M r h
    exact fe_no h
  · intro i As M r h
    exact fe_no h
theorem eX40_make (g0 : Nat → Int32 → FM → Option (Int32 × FM)) (g34 : Int32 → FM → Option (Int32 × FM)) (g65 : Int32 → FM → Option (Int32 × FM)) (a0 : Nat) (a1 : Int32) (M : FM) : dX40_make g0 g34 g65 0 [(0, .ref a0), (1, .int a1)] [] M = g0 a0 a1 M := by rfl
theorem mX40_make (n : Nat) (a0 : Nat) (a1 : Int32) (M : FM) (r : Int32 × FM) (h : FX40_make n a0 a1 M = some r) : fm_nx M ≤ fm_nx r.2 ∧ fm_ns M ≤ fm_ns r.2 :=
  fe_mono (L0 := [(0, .ref a0), (1, .int a1)]) (vX40_make n) (by decide +kernel) (hX40_make n) (fe_ki_k r) 0 rfl ((eX40_make (FX40_make_0 n ) (FX40_make_34 n ) (FX40_make_65 n ) a0 a1 M).trans h)
theorem zX40_make {s0 : State} {H0 : Heap} {oa : Nat → Nat} {D : va_G} (K : fk s0 H0 oa D) (l : Launch) (n : Nat) (a0 : Nat) (a1 : Int32) (M : FM) (r : Int32 × FM) (h : FX40_make n a0 a1 M = some r) : fs_Con (fk_E s0 H0 oa D) l 3 ⟨"BoardMachine$Halves$StackOrUpper", "make", "(I)I"⟩ prog_53_method_2_code 3 (Option.some Jvm.ClassFile.FieldType.int) [.ref a0, .int a1] M (some (.int r.1)) r.2 := by
  have o0 : fs_OS (sX40_make FX36_r (FX35_read n) FX103_ofI FX103_ofU) 0 1 (fs_Con (fk_E s0 H0 oa D) l 2 ⟨"BoardMachine$Halves$Line", "\x72", "(I)I"⟩ prog_49_method_2_code 1 (Option.some Jvm.ClassFile.FieldType.int)) := by
    intro As M r h
    obtain ⟨v0, t0, rfl, g0⟩ := fe_tI_d h
    obtain ⟨rfl, hz⟩ := fe_t0_d g0
    exact zX36_r K l v0 M r hz
  have o1 : fs_OS (sX40_make FX36_r (FX35_read n) FX103_ofI FX103_ofU) 1 1 (fs_Con (fk_E s0 H0 oa D) l 2 ⟨"BoardMachine$Halves$Layout", "read", "(I)I"⟩ prog_48_method_2_code 4 (Option.some Jvm.ClassFile.FieldType.int)) := by
    intro As M r h
    obtain ⟨v0, t0, rfl, g0⟩ := fe_tR_d h
    obtain ⟨v1, t1, rfl, g1⟩ := fe_tI_d g0
    obtain ⟨rfl, hz⟩ := fe_t0_d g1
    exact zX35_read K l n v0 v1 M r hz
  have o2 : fs_OS (sX40_make FX36_r (FX35_read n) FX103_ofI FX103_ofU) 2 1 (fs_Con (fk_E s0 H0 oa D) l 1 ⟨"BoardMachine$Halves$Words", "ofI", "(IIIII)I"⟩ prog_56_method_3_code 5 (Option.some Jvm.ClassFile.FieldType.int)) := by
    intro As M r h
    obtain ⟨v0, t0, rfl, g0⟩ := fe_tI_d h
    obtain ⟨v1, t1, rfl, g1⟩ := fe_tI_d g0
    obtain ⟨v2, t2, rfl, g2⟩ := fe_tI_d g1
    obtain ⟨v3, t3, rfl, g3⟩ := fe_tI_d g2
    obtain ⟨v4, t4, rfl, g4⟩ := fe_tI_d g3
    obtain ⟨rfl, hz⟩ := fe_t0_d g4
    exact zX103_ofI K l v0 v1 v2 v3 v4 M r hz
  have o3 : fs_OS (sX40_make FX36_r (FX35_read n) FX103_ofI FX103_ofU) 3 1 (fs_Con (fk_E s0 H0 oa D) l 1 ⟨"BoardMachine$Halves$Words", "ofU", "(III)I"⟩ prog_56_method_6_code 3 (Option.some Jvm.ClassFile.FieldType.int)) := by
    intro As M r h
    obtain ⟨v0, t0, rfl, g0⟩ := fe_tI_d h
    obtain ⟨v1, t1, rfl, g1⟩ := fe_tI_d g0
    obtain ⟨v2, t2, rfl, g2⟩ := fe_tI_d g1
    obtain ⟨rfl, hz⟩ := fe_t0_d g2
    exact zX103_ofU K l v0 v1 v2 M r hz
  refine fs_method (own := "BoardMachine$Halves$StackOrUpper") rfl (by decide) K.2.1 (by rw [fe_slen]; exact (Nat.le_of_ble_eq_true rfl)) (mX40_make n a0 a1 M r h) (hX40_make n) 0 rfl (L0 := [(0, .ref a0), (1, .int a1)]) (fun E => fe_args_e E [.ref a0, .int a1] 0) ((eX40_make (FX40_make_0 n ) (FX40_make_34 n ) (FX40_make_65 n ) a0 a1 M).trans h) (fe_ki_k r) (fun H hR => fs_nr_o (by decide) (by decide)) ?_
  intro p e s m args below meth c Q C hnm
  have hw : s0.WarmedH s.vm := C.2.2.2.2.1
  refine fe_all C fk_hwr cX40_make [1, 9, 13, 31, 36, 40, 55, 62] (by decide +kernel) (fe_fil (cps := [(1, 4, .invokestatic 5), (9, 12, .getfield 541266118), (13, 16, .invokevirtual 76589098), (31, 34, .invokestatic 149), (36, 39, .getfield 591597766), (40, 43, .invokevirtual 76589098), (55, 58, .invokestatic 5), (62, 65, .invokestatic 205)]) (by decide +kernel) ?_)
  refine fs_c1 (fs_inv_static (pc := 1) (n := 5) C (fs_lk_staticU (idx := 13) (x := ⟨"BoardMachine$Halves$StackOrUpper", "\x72", "(I)I"⟩) (owner := "BoardMachine$Halves$Line") (bytes := prog_49_method_2_code) (maxL := 1) (rt := (Option.some Jvm.ClassFile.FieldType.int)) (d := 2) C (by decide +kernel) (kw K hw q3149) (kw K hw q347) (kw K hw q3148) (kw K hw q3187) (kw K hw q3188) ⟨by decide, by decide⟩ rfl (Nat.le_of_ble_eq_true rfl) (Nat.le_of_ble_eq_true rfl)) fs_con_mono o0) ?_
  refine fs_c1 (fs_getf (pc := 9) (n := 541266118) (idx := 17) (ref := "BoardMachine$Halves$StackOrUpper") (O := "BoardMachine$Halves$Line") (name := "layout") (desc := "LBoardMachine$Halves$Layout;") C (by decide +kernel) (Or.inl (kw K hw q1114)) (fs_sameF (kw (args := args) K hw q1115)) (Nat.le_of_ble_eq_true rfl) (Nat.le_of_ble_eq_true rfl) (fs_one (⟨_, ff_49_129 s0 H0 oa D⟩))) ?_
  refine fs_c1 (fs_inv_virtual (pc := 13) (n := 76589098) C (Nat.le_of_ble_eq_true rfl) (Nat.le_of_ble_eq_true rfl) (fs_lk_virtual (idx := 20) (y := ⟨"BoardMachine$Halves$Layout", "read", "(I)I"⟩) (bytes := prog_48_method_2_code) (maxL := 4) (rt := (Option.some Jvm.ClassFile.FieldType.int)) (d := 2) C (Nat.le_of_ble_eq_true rfl) (Nat.le_of_ble_eq_true rfl) (by decide +kernel) (kw K hw q3114) (kw K hw q346) (kw K hw q3112) (Or.inl (kw K hw q3189)) ⟨by decide, by decide⟩ rfl (Nat.le_of_ble_eq_true rfl) (Nat.le_of_ble_eq_true rfl) (fs_one (⟨_, rfl, kw K hw q3113⟩))) fs_con_mono o1) ?_
  refine fs_c1 (fs_inv_static (pc := 31) (n := 149) C (fs_lk_static (idx := 25) (y := ⟨"BoardMachine$Halves$Words", "ofI", "(IIIII)I"⟩) (bytes := prog_56_method_3_code) (maxL := 5) (rt := (Option.some Jvm.ClassFile.FieldType.int)) (d := 1) C (by decide +kernel) (kw K hw q3133) (kw K hw q428) (kw K hw q3132) (Or.inl (kw K hw q3190)) ⟨by decide, by decide⟩ rfl (Nat.le_of_ble_eq_true rfl) (Nat.le_of_ble_eq_true rfl)) fs_con_mono o2) ?_
  refine fs_c1 (fs_getf (pc := 36) (n := 591597766) (idx := 7) (ref := "BoardMachine$Halves$StackOrUpper") (O := "BoardMachine$Halves$StackOrUpper") (name := "upper") (desc := "LBoardMachine$Halves$Layout;") C (by decide +kernel) (Or.inl (kw K hw q1177)) (fun _ h => h) (Nat.le_of_ble_eq_true rfl) (Nat.le_of_ble_eq_true rfl) (fs_one (⟨_, ff_49_141 s0 H0 oa D⟩))) ?_
  refine fs_c1 (fs_inv_virtual (pc := 40) (n := 76589098) C (Nat.le_of_ble_eq_true rfl) (Nat.le_of_ble_eq_true rfl) (fs_lk_virtual (idx := 20) (y := ⟨"BoardMachine$Halves$Layout", "read", "(I)I"⟩) (bytes := prog_48_method_2_code) (maxL := 4) (rt := (Option.some Jvm.ClassFile.FieldType.int)) (d := 2) C (Nat.le_of_ble_eq_true rfl) (Nat.le_of_ble_eq_true rfl) (by decide +kernel) (kw K hw q3114) (kw K hw q346) (kw K hw q3112) (Or.inl (kw K hw q3189)) ⟨by decide, by decide⟩ rfl (Nat.le_of_ble_eq_true rfl) (Nat.le_of_ble_eq_true rfl) (fs_one (⟨_, rfl, kw K hw q3113⟩))) fs_con_mono o1) ?_
  refine fs_c1 (fs_inv_static (pc := 55) (n := 5) C (fs_lk_staticU (idx := 13) (x := ⟨"BoardMachine$Halves$StackOrUpper", "\x72", "(I)I"⟩) (owner := "BoardMachine$Halves$Line") (bytes := prog_49_method_2_code) (maxL := 1) (rt := (Option.some Jvm.ClassFile.FieldType.int)) (d := 2) C (by decide +kernel) (kw K hw q3149) (kw K hw q347) (kw K hw q3148) (kw K hw q3187) (kw K hw q3188) ⟨by decide, by decide⟩ rfl (Nat.le_of_ble_eq_true rfl) (Nat.le_of_ble_eq_true rfl)) fs_con_mono o0) ?_
  refine fs_c1 (fs_inv_static (pc := 62) (n := 205) C (fs_lk_static (idx := 31) (y := ⟨"BoardMachine$Halves$Words", "ofU", "(III)I"⟩) (bytes := prog_56_method_6_code) (maxL := 3) (rt := (Option.some Jvm.ClassFile.FieldType.int)) (d := 1) C (by decide +kernel) (kw K hw q3193) (kw K hw q428) (kw K hw q3192) (Or.inl (kw K hw q3191)) ⟨by decide, by decide⟩ rfl (Nat.le_of_ble_eq_true rfl) (Nat.le_of_ble_eq_true rfl)) fs_con_mono o3) ?_
  exact fs_c0
theorem hX37_make (n : Nat) : fe_H (sX37_make (FX35_read n) FX36_s FX103_ofI) cX37_make [0, 29] fe_ki [] 22 (fun _ => dX37_make (FX37_make_0 n) (FX37_make_29 n)) := by
  intro j pc L st M r hc h
  rcases fe_mem_c hc with rfl | hc
  · obtain ⟨w0, m0, h⟩ := fe_lR_d h
    obtain ⟨w1, m1, h⟩ := fe_lI_d h
    obtain ⟨rfl, hz⟩ := fe_t0_d h
    exact ⟨[(0, .ref w0), (1, .int w1)], (fe_cs m0 (fe_cs m1 fe_nl)), Or.inr ((bX37_make_0 (FX35_read n) FX36_s FX103_ofI (FX37_make_0 n ) (FX37_make_29 n ) w0 w1 M).symm.trans hz)⟩
  rcases fe_mem_c hc with rfl | hc
  · obtain ⟨s0, t0, rfl, g0⟩ := fe_tI_d h
    obtain ⟨rfl, hz⟩ := fe_t0_d g0
    exact ⟨[], fe_nl, Or.inr ((bX37_make_29 (FX35_read n) FX36_s FX103_ofI (FX37_make_0 n ) (FX37_make_29 n ) s0 M).symm.trans hz)⟩
  exact fe_mem_0 hc
theorem vX37_make (n : Nat) : fe_SB (sX37_make (FX35_read n) FX36_s FX103_ofI) := by
  refine ⟨?_, ?_, ?_, ?_⟩
  · intro i As M r h
    exact fe_no h
  · intro i As M r h
    rcases fe_bc h with h | h
    · obtain ⟨v0, t0, rfl, g0⟩ := fe_tR_d h
      obtain ⟨v1, t1, rfl, g1⟩ := fe_tI_d g0
      obtain ⟨rfl, hz⟩ := fe_t0_d g1
      exact mX35_read n v0 v1 M r hz
    rcases fe_bc h with h | h
    · obtain ⟨v0, t0, rfl, g0⟩ := fe_tI_d h
      obtain ⟨rfl, hz⟩ := fe_t0_d g0
      exact mX36_s v0 M r hz
    rcases fe_bc h with h | h
    · obtain ⟨v0, t0, rfl, g0⟩ := fe_tI_d h
      obtain ⟨v1, t1, rfl, g1⟩ := fe_tI_d g0
      obtain ⟨v2, t2, rfl, g2⟩ := fe_tI_d g1
      obtain ⟨v3, t3, rfl, g3⟩ := fe_tI_d g2
      obtain ⟨v4, t4, rfl, g4⟩ := fe_tI_d g3
      obtain ⟨rfl, hz⟩ := fe_t0_d g4
      exact mX103_ofI v0 v1 v2 v3 v4 M r hz
    exact fe_no h
  · intro i As M r h
    exact fe_no h
  · intro i As M r h
    exact fe_no h
theorem eX37_make (g0 : Nat → Int32 → FM → Option (Int32 × FM)) (g29 : Int32 → FM → Option (Int32 × FM)) (a0 : Nat) (a1 : Int32) (M : FM) : dX37_make g0 g29 0 [(0, .ref a0), (1, .int a1)] [] M = g0 a0 a1 M := by rfl
theorem mX37_make (n : Nat) (a0 : Nat) (a1 : Int32) (M : FM) (r : Int32 × FM) (h : FX37_make n a0 a1 M = some r) : fm_nx M ≤ fm_nx r.2 ∧ fm_ns M ≤ fm_ns r.2 :=
  fe_mono (L0 := [(0, .ref a0), (1, .int a1)]) (vX37_make n) (by decide +kernel) (hX37_make n) (fe_ki_k r) 0 rfl ((eX37_make (FX37_make_0 n ) (FX37_make_29 n ) a0 a1 M).trans h)
theorem zX37_make {s0 : State} {H0 : Heap} {oa : Nat → Nat} {D : va_G} (K : fk s0 H0 oa D) (l : Launch) (n : Nat) (a0 : Nat) (a1 : Int32) (M : FM) (r : Int32 × FM) (h : FX37_make n a0 a1 M = some r) : fs_Con (fk_E s0 H0 oa D) l 3 ⟨"BoardMachine$Halves$StackPlace", "make", "(I)I"⟩ prog_54_method_2_code 3 (Option.some Jvm.ClassFile.FieldType.int) [.ref a0, .int a1] M (some (.int r.1)) r.2 := by
  have o0 : fs_OS (sX37_make (FX35_read n) FX36_s FX103_ofI) 0 1 (fs_Con (fk_E s0 H0 oa D) l 2 ⟨"BoardMachine$Halves$Layout", "read", "(I)I"⟩ prog_48_method_2_code 4 (Option.some Jvm.ClassFile.FieldType.int)) := by
    intro As M r h
    obtain ⟨v0, t0, rfl, g0⟩ := fe_tR_d h
    obtain ⟨v1, t1, rfl, g1⟩ := fe_tI_d g0
    obtain ⟨rfl, hz⟩ := fe_t0_d g1
    exact zX35_read K l n v0 v1 M r hz
  have o1 : fs_OS (sX37_make (FX35_read n) FX36_s FX103_ofI) 1 1 (fs_Con (fk_E s0 H0 oa D) l 2 ⟨"BoardMachine$Halves$Line", "s", "(I)I"⟩ prog_49_method_5_code 1 (Option.some Jvm.ClassFile.FieldType.int)) := by
    intro As M r h
    obtain ⟨v0, t0, rfl, g0⟩ := fe_tI_d h
    obtain ⟨rfl, hz⟩ := fe_t0_d g0
    exact zX36_s K l v0 M r hz
  have o2 : fs_OS (sX37_make (FX35_read n) FX36_s FX103_ofI) 2 1 (fs_Con (fk_E s0 H0 oa D) l 1 ⟨"BoardMachine$Halves$Words", "ofI", "(IIIII)I"⟩ prog_56_method_3_code 5 (Option.some Jvm.ClassFile.FieldType.int)) := by
    intro As M r h
    obtain ⟨v0, t0, rfl, g0⟩ := fe_tI_d h
    obtain ⟨v1, t1, rfl, g1⟩ := fe_tI_d g0
    obtain ⟨v2, t2, rfl, g2⟩ := fe_tI_d g1
    obtain ⟨v3, t3, rfl, g3⟩ := fe_tI_d g2
    obtain ⟨v4, t4, rfl, g4⟩ := fe_tI_d g3
    obtain ⟨rfl, hz⟩ := fe_t0_d g4
    exact zX103_ofI K l v0 v1 v2 v3 v4 M r hz
  refine fs_method (own := "BoardMachine$Halves$StackPlace") rfl (by decide) K.2.1 (by rw [fe_slen]; exact (Nat.le_of_ble_eq_true rfl)) (mX37_make n a0 a1 M r h) (hX37_make n) 0 rfl (L0 := [(0, .ref a0), (1, .int a1)]) (fun E => fe_args_e E [.ref a0, .int a1] 0) ((eX37_make (FX37_make_0 n ) (FX37_make_29 n ) a0 a1 M).trans h) (fe_ki_k r) (fun H hR => fs_nr_o (by decide) (by decide)) ?_
  intro p e s m args below meth c Q C hnm
  have hw : s0.WarmedH s.vm := C.2.2.2.2.1
  refine fe_all C fk_hwr cX37_make [1, 5, 20, 26] (by decide +kernel) (fe_fil (cps := [(1, 4, .getfield 541270218), (5, 8, .invokevirtual 9480234), (20, 23, .invokestatic 69), (26, 29, .invokestatic 149)]) (by decide +kernel) ?_)
  refine fs_c1 (fs_getf (pc := 1) (n := 541270218) (idx := 7) (ref := "BoardMachine$Halves$StackPlace") (O := "BoardMachine$Halves$Line") (name := "layout") (desc := "LBoardMachine$Halves$Layout;") C (by decide +kernel) (Or.inl (kw K hw q1110)) (fs_sameF (kw (args := args) K hw q1111)) (Nat.le_of_ble_eq_true rfl) (Nat.le_of_ble_eq_true rfl) (fs_one (⟨_, ff_50_129 s0 H0 oa D⟩))) ?_
  refine fs_c1 (fs_inv_virtual (pc := 5) (n := 9480234) C (Nat.le_of_ble_eq_true rfl) (Nat.le_of_ble_eq_true rfl) (fs_lk_virtual (idx := 13) (y := ⟨"BoardMachine$Halves$Layout", "read", "(I)I"⟩) (bytes := prog_48_method_2_code) (maxL := 4) (rt := (Option.some Jvm.ClassFile.FieldType.int)) (d := 2) C (Nat.le_of_ble_eq_true rfl) (Nat.le_of_ble_eq_true rfl) (by decide +kernel) (kw K hw q3114) (kw K hw q346) (kw K hw q3112) (Or.inl (kw K hw q3197)) ⟨by decide, by decide⟩ rfl (Nat.le_of_ble_eq_true rfl) (Nat.le_of_ble_eq_true rfl) (fs_one (⟨_, rfl, kw K hw q3113⟩))) fs_con_mono o0) ?_
  refine fs_c1 (fs_inv_static (pc := 20) (n := 69) C (fs_lk_staticU (idx := 19) (x := ⟨"BoardMachine$Halves$StackPlace", "s", "(I)I"⟩) (owner := "BoardMachine$Halves$Line") (bytes := prog_49_method_5_code) (maxL := 1) (rt := (Option.some Jvm.ClassFile.FieldType.int)) (d := 2) C (by decide +kernel) (kw K hw q3126) (kw K hw q347) (kw K hw q3125) (kw K hw q3198) (kw K hw q3199) ⟨by decide, by decide⟩ rfl (Nat.le_of_ble_eq_true rfl) (Nat.le_of_ble_eq_true rfl)) fs_con_mono o1) ?_
  refine fs_c1 (fs_inv_static (pc := 26) (n := 149) C (fs_lk_static (idx := 22) (y := ⟨"BoardMachine$Halves$Words", "ofI", "(IIIII)I"⟩) (bytes := prog_56_method_3_code) (maxL := 5) (rt := (Option.some Jvm.ClassFile.FieldType.int)) (d := 1) C (by decide +kernel) (kw K hw q3133) (kw K hw q428) (kw K hw q3132) (Or.inl (kw K hw q3200)) ⟨by decide, by decide⟩ rfl (Nat.le_of_ble_eq_true rfl) (Nat.le_of_ble_eq_true rfl)) fs_con_mono o2) ?_
  exact fs_c0
theorem hX45_make : fe_H (sX45_make FX103_bits FX36_q FX36_r FX103_ofR FX103_ofI) cX45_make [0, 17, 44, 70, 82] fe_ki [] 54 (fun _ => dX45_make FX45_make_0 FX45_make_17 FX45_make_44 FX45_make_70 FX45_make_82) := by
  intro j pc L st M r hc h
  rcases fe_mem_c hc with rfl | hc
  · obtain ⟨w0, m0, h⟩ := fe_lR_d h
    obtain ⟨w1, m1, h⟩ := fe_lI_d h
    obtain ⟨rfl, hz⟩ := fe_t0_d h
    exact ⟨[(0, .ref w0), (1, .int w1)], (fe_cs m0 (fe_cs m1 fe_nl)), Or.inr ((bX45_make_0 FX103_bits FX36_q FX36_r FX103_ofR FX103_ofI FX45_make_0 FX45_make_17 FX45_make_44 FX45_make_70 FX45_make_82 w0 w1 M).symm.trans hz)⟩
  rcases fe_mem_c hc with rfl | hc
  · obtain ⟨w1, m1, h⟩ := fe_lI_d h
    obtain ⟨s0, t0, rfl, g0⟩ := fe_tI_d h
    obtain ⟨rfl, hz⟩ := fe_t0_d g0
    exact ⟨[(1, .int w1)], (fe_cs m1 fe_nl), Or.inr ((bX45_make_17 FX103_bits FX36_q FX36_r FX103_ofR FX103_ofI FX45_make_0 FX45_make_17 FX45_make_44 FX45_make_70 FX45_make_82 w1 s0 M).symm.trans hz)⟩
  rcases fe_mem_c hc with rfl | hc
  · obtain ⟨w1, m1, h⟩ := fe_lI_d h
    obtain ⟨s3, t3, rfl, g3⟩ := fe_tI_d h
    obtain ⟨s2, t2, rfl, g2⟩ := fe_tI_d g3
    obtain ⟨s1, t1, rfl, g1⟩ := fe_tI_d g2
    obtain ⟨s0, t0, rfl, g0⟩ := fe_tI_d g1
    obtain ⟨rfl, hz⟩ := fe_t0_d g0
    exact ⟨[(1, .int w1)], (fe_cs m1 fe_nl), Or.inr ((bX45_make_44 FX103_bits FX36_q FX36_r FX103_ofR FX103_ofI FX45_make_0 FX45_make_17 FX45_make_44 FX45_make_70 FX45_make_82 w1 s0 s1 s2 s3 M).symm.trans hz)⟩
  rcases fe_mem_c hc with rfl | hc
  · obtain ⟨s0, t0, rfl, g0⟩ := fe_tI_d h
    obtain ⟨rfl, hz⟩ := fe_t0_d g0
    exact ⟨[], fe_nl, Or.inr ((bX45_make_70 FX103_bits FX36_q FX36_r FX103_ofR FX103_ofI FX45_make_0 FX45_make_17 FX45_make_44 FX45_make_70 FX45_make_82 s0 M).symm.trans hz)⟩
  rcases fe_mem_c hc with rfl | hc
  · obtain ⟨w1, m1, h⟩ := fe_lI_d h
    obtain ⟨s1, t1, rfl, g1⟩ := fe_tI_d h
    obtain ⟨s0, t0, rfl, g0⟩ := fe_tI_d g1
    obtain ⟨rfl, hz⟩ := fe_t0_d g0
    exact ⟨[(1, .int w1)], (fe_cs m1 fe_nl), Or.inr ((bX45_make_82 FX103_bits FX36_q FX36_r FX103_ofR FX103_ofI FX45_make_0 FX45_make_17 FX45_make_44 FX45_make_70 FX45_make_82 w1 s0 s1 M).symm.trans hz)⟩
  exact fe_mem_0 hc
theorem vX45_make : fe_SB (sX45_make FX103_bits FX36_q FX36_r FX103_ofR FX103_ofI) := by
  refine ⟨?_, ?_, ?_, ?_⟩
  · intro i As M r h
    exact fe_no h
  · intro i As M r h
    rcases fe_bc h with h | h
    · obtain ⟨v0, t0, rfl, g0⟩ := fe_tI_d h
      obtain ⟨v1, t1, rfl, g1⟩ := fe_tI_d g0
      obtain ⟨v2, t2, rfl, g2⟩ := fe_tI_d g1
      obtain ⟨rfl, hz⟩ := fe_t0_d g2
      exact mX103_bits v0 v1 v2 M r hz
    rcases fe_bc h with h | h
    · obtain ⟨v0, t0, rfl, g0⟩ := fe_tI_d h
      obtain ⟨rfl, hz⟩ := fe_t0_d g0
      exact mX36_q v0 M r hz
    rcases fe_bc h with h | h
    · obtain ⟨v0, t0, rfl, g0⟩ := fe_tI_d h
      obtain ⟨rfl, hz⟩ := fe_t0_d g0
      exact mX36_r v0 M r hz
    rcases fe_bc h with h | h
    · obtain ⟨v0, t0, rfl, g0⟩ := fe_tI_d h
      obtain ⟨v1, t1, rfl, g1⟩ := fe_tI_d g0
      obtain ⟨v2, t2, rfl, g2⟩ := fe_tI_d g1
      obtain ⟨v3, t3, rfl, g3⟩ := fe_tI_d g2
      obtain ⟨v4, t4, rfl, g4⟩ := fe_tI_d g3
      obtain ⟨v5, t5, rfl, g5⟩ := fe_tI_d g4
      obtain ⟨rfl, hz⟩ := fe_t0_d g5
      exact mX103_ofR v0 v1 v2 v3 v4 v5 M r hz
    rcases fe_bc h with h | h
    · obtain ⟨v0, t0, rfl, g0⟩ := fe_tI_d h
      obtain ⟨v1, t1, rfl, g1⟩ := fe_tI_d g0
      obtain ⟨v2, t2, rfl, g2⟩ := fe_tI_d g1
      obtain ⟨v3, t3, rfl, g3⟩ := fe_tI_d g2
      obtain ⟨v4, t4, rfl, g4⟩ := fe_tI_d g3
      obtain ⟨rfl, hz⟩ := fe_t0_d g4
      exact mX103_ofI v0 v1 v2 v3 v4 M r hz
    exact fe_no h
  · intro i As M r h
    exact fe_no h
  · intro i As M r h
    exact fe_no h
theorem eX45_make (g0 : Nat → Int32 → FM → Option (Int32 × FM)) (g17 : Int32 → Int32 → FM → Option (Int32 × FM)) (g44 : Int32 → Int32 → Int32 → Int32 → Int32 → FM → Option (Int32 × FM)) (g70 : Int32 → FM → Option (Int32 × FM)) (g82 : Int32 → Int32 → Int32 → FM → Option (Int32 × FM)) (a0 : Nat) (a1 : Int32) (M : FM) : dX45_make g0 g17 g44 g70 g82 0 [(0, .ref a0), (1, .int a1)] [] M = g0 a0 a1 M := by rfl
theorem mX45_make (a0 : Nat) (a1 : Int32) (M : FM) (r : Int32 × FM) (h : FX45_make a0 a1 M = some r) : fm_nx M ≤ fm_nx r.2 ∧ fm_ns M ≤ fm_ns r.2 :=
  fe_mono (L0 := [(0, .ref a0), (1, .int a1)]) (vX45_make) (by decide +kernel) (hX45_make) (fe_ki_k r) 0 rfl ((eX45_make FX45_make_0 FX45_make_17 FX45_make_44 FX45_make_70 FX45_make_82 a0 a1 M).trans h)
theorem zX45_make {s0 : State} {H0 : Heap} {oa : Nat → Nat} {D : va_G} (K : fk s0 H0 oa D) (l : Launch) (a0 : Nat) (a1 : Int32) (M : FM) (r : Int32 × FM) (h : FX45_make a0 a1 M = some r) : fs_Con (fk_E s0 H0 oa D) l 3 ⟨"BoardMachine$Halves$Whole", "make", "(I)I"⟩ prog_55_method_2_code 3 (Option.some Jvm.ClassFile.FieldType.int) [.ref a0, .int a1] M (some (.int r.1)) r.2 := by
  have o0 : fs_OS (sX45_make FX103_bits FX36_q FX36_r FX103_ofR FX103_ofI) 0 1 (fs_Con (fk_E s0 H0 oa D) l 1 ⟨"BoardMachine$Halves$Words", "bits", "(III)I"⟩ prog_56_method_2_code 3 (Option.some Jvm.ClassFile.FieldType.int)) := by
    intro As M r h
    obtain ⟨v0, t0, rfl, g0⟩ := fe_tI_d h
    obtain ⟨v1, t1, rfl, g1⟩ := fe_tI_d g0
    obtain ⟨v2, t2, rfl, g2⟩ := fe_tI_d g1
    obtain ⟨rfl, hz⟩ := fe_t0_d g2
    exact zX103_bits K l v0 v1 v2 M r hz
  have o1 : fs_OS (sX45_make FX103_bits FX36_q FX36_r FX103_ofR FX103_ofI) 1 1 (fs_Con (fk_E s0 H0 oa D) l 2 ⟨"BoardMachine$Halves$Line", "q", "(I)I"⟩ prog_49_method_3_code 1 (Option.some Jvm.ClassFile.FieldType.int)) := by
    intro As M r h
    obtain ⟨v0, t0, rfl, g0⟩ := fe_tI_d h
    obtain ⟨rfl, hz⟩ := fe_t0_d g0
    exact zX36_q K l v0 M r hz
  have o2 : fs_OS (sX45_make FX103_bits FX36_q FX36_r FX103_ofR FX103_ofI) 2 1 (fs_Con (fk_E s0 H0 oa D) l 2 ⟨"BoardMachine$Halves$Line", "\x72", "(I)I"⟩ prog_49_method_2_code 1 (Option.some Jvm.ClassFile.FieldType.int)) := by
    intro As M r h
    obtain ⟨v0, t0, rfl, g0⟩ := fe_tI_d h
    obtain ⟨rfl, hz⟩ := fe_t0_d g0
    exact zX36_r K l v0 M r hz
  have o3 : fs_OS (sX45_make FX103_bits FX36_q FX36_r FX103_ofR FX103_ofI) 3 1 (fs_Con (fk_E s0 H0 oa D) l 1 ⟨"BoardMachine$Halves$Words", "ofR", "(IIIIII)I"⟩ prog_56_method_4_code 6 (Option.some Jvm.ClassFile.FieldType.int)) := by
    intro As M r h
    obtain ⟨v0, t0, rfl, g0⟩ := fe_tI_d h
    obtain ⟨v1, t1, rfl, g1⟩ := fe_tI_d g0
    obtain ⟨v2, t2, rfl, g2⟩ := fe_tI_d g1
    obtain ⟨v3, t3, rfl, g3⟩ := fe_tI_d g2
    obtain ⟨v4, t4, rfl, g4⟩ := fe_tI_d g3
    obtain ⟨v5, t5, rfl, g5⟩ := fe_tI_d g4
    obtain ⟨rfl, hz⟩ := fe_t0_d g5
    exact zX103_ofR K l v0 v1 v2 v3 v4 v5 M r hz
  have o4 : fs_OS (sX45_make FX103_bits FX36_q FX36_r FX103_ofR FX103_ofI) 4 1 (fs_Con (fk_E s0 H0 oa D) l 1 ⟨"BoardMachine$Halves$Words", "ofI", "(IIIII)I"⟩ prog_56_method_3_code 5 (Option.some Jvm.ClassFile.FieldType.int)) := by
    intro As M r h
    obtain ⟨v0, t0, rfl, g0⟩ := fe_tI_d h
    obtain ⟨v1, t1, rfl, g1⟩ := fe_tI_d g0
    obtain ⟨v2, t2, rfl, g2⟩ := fe_tI_d g1
    obtain ⟨v3, t3, rfl, g3⟩ := fe_tI_d g2
    obtain ⟨v4, t4, rfl, g4⟩ := fe_tI_d g3
    obtain ⟨rfl, hz⟩ := fe_t0_d g4
    exact zX103_ofI K l v0 v1 v2 v3 v4 M r hz
  refine fs_method (own := "BoardMachine$Halves$Whole") rfl (by decide) K.2.1 (by rw [fe_slen]; exact (Nat.le_of_ble_eq_true rfl)) (mX45_make a0 a1 M r h) (hX45_make) 0 rfl (L0 := [(0, .ref a0), (1, .int a1)]) (fun E => fe_args_e E [.ref a0, .int a1] 0) ((eX45_make FX45_make_0 FX45_make_17 FX45_make_44 FX45_make_70 FX45_make_82 a0 a1 M).trans h) (fe_ki_k r) (fun H hR => fs_nr_o (by decide) (by decide)) ?_
  intro p e s m args below meth c Q C hnm
  have hw : s0.WarmedH s.vm := C.2.2.2.2.1
  refine fe_all C fk_hwr cX45_make [5, 19, 28, 37, 45, 49, 54, 64, 84, 88] (by decide +kernel) (fe_fil (cps := [(5, 8, .invokestatic 13), (19, 22, .invokestatic 69), (28, 31, .invokestatic 133), (37, 40, .invokestatic 133), (45, 48, .invokestatic 69), (49, 52, .invokestatic 217), (54, 57, .invokestatic 133), (64, 66, .iconst (1048691)), (84, 87, .invokestatic 133), (88, 91, .invokestatic 277)]) (by decide +kernel) ?_)
  refine fs_c1 (fs_inv_static (pc := 5) (n := 13) C (fs_lk_static (idx := 9) (y := ⟨"BoardMachine$Halves$Words", "bits", "(III)I"⟩) (bytes := prog_56_method_2_code) (maxL := 3) (rt := (Option.some Jvm.ClassFile.FieldType.int)) (d := 1) C (by decide +kernel) (kw K hw q3117) (kw K hw q428) (kw K hw q3116) (Or.inl (kw K hw q3204)) ⟨by decide, by decide⟩ rfl (Nat.le_of_ble_eq_true rfl) (Nat.le_of_ble_eq_true rfl)) fs_con_mono o0) ?_
  refine fs_c1 (fs_inv_static (pc := 19) (n := 69) C (fs_lk_staticU (idx := 15) (x := ⟨"BoardMachine$Halves$Whole", "q", "(I)I"⟩) (owner := "BoardMachine$Halves$Line") (bytes := prog_49_method_3_code) (maxL := 1) (rt := (Option.some Jvm.ClassFile.FieldType.int)) (d := 2) C (by decide +kernel) (kw K hw q3179) (kw K hw q347) (kw K hw q3178) (kw K hw q3205) (kw K hw q3206) ⟨by decide, by decide⟩ rfl (Nat.le_of_ble_eq_true rfl) (Nat.le_of_ble_eq_true rfl)) fs_con_mono o1) ?_
  refine fs_c1 (fs_inv_static (pc := 28) (n := 133) C (fs_lk_staticU (idx := 21) (x := ⟨"BoardMachine$Halves$Whole", "\x72", "(I)I"⟩) (owner := "BoardMachine$Halves$Line") (bytes := prog_49_method_2_code) (maxL := 1) (rt := (Option.some Jvm.ClassFile.FieldType.int)) (d := 2) C (by decide +kernel) (kw K hw q3149) (kw K hw q347) (kw K hw q3148) (kw K hw q3207) (kw K hw q3208) ⟨by decide, by decide⟩ rfl (Nat.le_of_ble_eq_true rfl) (Nat.le_of_ble_eq_true rfl)) fs_con_mono o2) ?_
  refine fs_c1 (fs_inv_static (pc := 37) (n := 133) C (fs_lk_staticU (idx := 21) (x := ⟨"BoardMachine$Halves$Whole", "\x72", "(I)I"⟩) (owner := "BoardMachine$Halves$Line") (bytes := prog_49_method_2_code) (maxL := 1) (rt := (Option.some Jvm.ClassFile.FieldType.int)) (d := 2) C (by decide +kernel) (kw K hw q3149) (kw K hw q347) (kw K hw q3148) (kw K hw q3207) (kw K hw q3208) ⟨by decide, by decide⟩ rfl (Nat.le_of_ble_eq_true rfl) (Nat.le_of_ble_eq_true rfl)) fs_con_mono o2) ?_
  refine fs_c1 (fs_inv_static (pc := 45) (n := 69) C (fs_lk_staticU (idx := 15) (x := ⟨"BoardMachine$Halves$Whole", "q", "(I)I"⟩) (owner := "BoardMachine$Halves$Line") (bytes := prog_49_method_3_code) (maxL := 1) (rt := (Option.some Jvm.ClassFile.FieldType.int)) (d := 2) C (by decide +kernel) (kw K hw q3179) (kw K hw q347) (kw K hw q3178) (kw K hw q3205) (kw K hw q3206) ⟨by decide, by decide⟩ rfl (Nat.le_of_ble_eq_true rfl) (Nat.le_of_ble_eq_true rfl)) fs_con_mono o1) ?_
  refine fs_c1 (fs_inv_static (pc := 49) (n := 217) C (fs_lk_static (idx := 24) (y := ⟨"BoardMachine$Halves$Words", "ofR", "(IIIIII)I"⟩) (bytes := prog_56_method_4_code) (maxL := 6) (rt := (Option.some Jvm.ClassFile.FieldType.int)) (d := 1) C (by decide +kernel) (kw K hw q3171) (kw K hw q428) (kw K hw q3170) (Or.inl (kw K hw q3209)) ⟨by decide, by decide⟩ rfl (Nat.le_of_ble_eq_true rfl) (Nat.le_of_ble_eq_true rfl)) fs_con_mono o3) ?_
  refine fs_c1 (fs_inv_static (pc := 54) (n := 133) C (fs_lk_staticU (idx := 21) (x := ⟨"BoardMachine$Halves$Whole", "\x72", "(I)I"⟩) (owner := "BoardMachine$Halves$Line") (bytes := prog_49_method_2_code) (maxL := 1) (rt := (Option.some Jvm.ClassFile.FieldType.int)) (d := 2) C (by decide +kernel) (kw K hw q3149) (kw K hw q347) (kw K hw q3148) (kw K hw q3207) (kw K hw q3208) ⟨by decide, by decide⟩ rfl (Nat.le_of_ble_eq_true rfl) (Nat.le_of_ble_eq_true rfl)) fs_con_mono o2) ?_
  refine fs_c1 (fs_ldci (pc := 64) (idx := 28) (v := 1048691) C (by decide +kernel) (kw K hw q3210)) ?_
  refine fs_c1 (fs_inv_static (pc := 84) (n := 133) C (fs_lk_staticU (idx := 21) (x := ⟨"BoardMachine$Halves$Whole", "\x72", "(I)I"⟩) (owner := "BoardMachine$Halves$Line") (bytes := prog_49_method_2_code) (maxL := 1) (rt := (Option.some Jvm.ClassFile.FieldType.int)) (d := 2) C (by decide +kernel) (kw K hw q3149) (kw K hw q347) (kw K hw q3148) (kw K hw q3207) (kw K hw q3208) ⟨by decide, by decide⟩ rfl (Nat.le_of_ble_eq_true rfl) (Nat.le_of_ble_eq_true rfl)) fs_con_mono o2) ?_
  refine fs_c1 (fs_inv_static (pc := 88) (n := 277) C (fs_lk_static (idx := 29) (y := ⟨"BoardMachine$Halves$Words", "ofI", "(IIIII)I"⟩) (bytes := prog_56_method_3_code) (maxL := 5) (rt := (Option.some Jvm.ClassFile.FieldType.int)) (d := 1) C (by decide +kernel) (kw K hw q3133) (kw K hw q428) (kw K hw q3132) (Or.inl (kw K hw q3211)) ⟨by decide, by decide⟩ rfl (Nat.le_of_ble_eq_true rfl) (Nat.le_of_ble_eq_true rfl)) fs_con_mono o4) ?_
  exact fs_c0
theorem hX34_expand (n : Nat) : fe_H (sX34_expand (FX38_make n) (FX43_make n) (FX39_make n) (FX42_make n) (FX41_make n) (FX44_make n) (FX40_make n) (FX37_make n) FX45_make) cX34_expand [0, 27, 41] fe_ki [] 33 (fun _ => dX34_expand (FX34_expand_0 n) (FX34_expand_27 n) (FX34_expand_41 n)) := by
  intro j pc L st M r hc h
  rcases fe_mem_c hc with rfl | hc
  · obtain ⟨w0, m0, h⟩ := fe_lR_d h
    obtain ⟨w1, m1, h⟩ := fe_lI_d h
    obtain ⟨rfl, hz⟩ := fe_t0_d h
    exact ⟨[(0, .ref w0), (1, .int w1)], (fe_cs m0 (fe_cs m1 fe_nl)), Or.inr ((bX34_expand_0 (FX38_make n) (FX43_make n) (FX39_make n) (FX42_make n) (FX41_make n) (FX44_make n) (FX40_make n) (FX37_make n) FX45_make (FX34_expand_0 n ) (FX34_expand_27 n ) (FX34_expand_41 n ) w0 w1 M).symm.trans hz)⟩
  rcases fe_mem_c hc with rfl | hc
  · obtain ⟨w1, m1, h⟩ := fe_lI_d h
    obtain ⟨s0, t0, rfl, g0⟩ := fe_tR_d h
    obtain ⟨rfl, hz⟩ := fe_t0_d g0
    exact ⟨[(1, .int w1)], (fe_cs m1 fe_nl), Or.inr ((bX34_expand_27 (FX38_make n) (FX43_make n) (FX39_make n) (FX42_make n) (FX41_make n) (FX44_make n) (FX40_make n) (FX37_make n) FX45_make (FX34_expand_0 n ) (FX34_expand_27 n ) (FX34_expand_41 n ) w1 s0 M).symm.trans hz)⟩
  rcases fe_mem_c hc with rfl | hc
  · obtain ⟨s0, t0, rfl, g0⟩ := fe_tI_d h
    obtain ⟨rfl, hz⟩ := fe_t0_d g0
    exact ⟨[], fe_nl, Or.inr ((bX34_expand_41 (FX38_make n) (FX43_make n) (FX39_make n) (FX42_make n) (FX41_make n) (FX44_make n) (FX40_make n) (FX37_make n) FX45_make (FX34_expand_0 n ) (FX34_expand_27 n ) (FX34_expand_41 n ) s0 M).symm.trans hz)⟩
  exact fe_mem_0 hc
theorem vX34_expand (n : Nat) : fe_SB (sX34_expand (FX38_make n) (FX43_make n) (FX39_make n) (FX42_make n) (FX41_make n) (FX44_make n) (FX40_make n) (FX37_make n) FX45_make) := by
  refine ⟨?_, ?_, ?_, ?_⟩
  · intro i As M r h
    exact fe_no h
  · intro i As M r h
    rcases fe_bc h with h | h
    · obtain ⟨v0, t0, rfl, g0⟩ := fe_tR_d h
      obtain ⟨v1, t1, rfl, g1⟩ := fe_tI_d g0
      obtain ⟨rfl, hz⟩ := fe_t0_d g1
      exact mX38_make n v0 v1 M r hz
    rcases fe_bc h with h | h
    · obtain ⟨v0, t0, rfl, g0⟩ := fe_tR_d h
      obtain ⟨v1, t1, rfl, g1⟩ := fe_tI_d g0
      obtain ⟨rfl, hz⟩ := fe_t0_d g1
      exact mX43_make n v0 v1 M r hz
    rcases fe_bc h with h | h
    · obtain ⟨v0, t0, rfl, g0⟩ := fe_tR_d h
      obtain ⟨v1, t1, rfl, g1⟩ := fe_tI_d g0
      obtain ⟨rfl, hz⟩ := fe_t0_d g1
      exact mX39_make n v0 v1 M r hz
    rcases fe_bc h with h | h
    · obtain ⟨v0, t0, rfl, g0⟩ := fe_tR_d h
      obtain ⟨v1, t1, rfl, g1⟩ := fe_tI_d g0
      obtain ⟨rfl, hz⟩ := fe_t0_d g1
      exact mX42_make n v0 v1 M r hz
    rcases fe_bc h with h | h
    · obtain ⟨v0, t0, rfl, g0⟩ := fe_tR_d h
      obtain ⟨v1, t1, rfl, g1⟩ := fe_tI_d g0
      obtain ⟨rfl, hz⟩ := fe_t0_d g1
      exact mX41_make n v0 v1 M r hz
    rcases fe_bc h with h | h
    · obtain ⟨v0, t0, rfl, g0⟩ := fe_tR_d h
      obtain ⟨v1, t1, rfl, g1⟩ := fe_tI_d g0
      obtain ⟨rfl, hz⟩ := fe_t0_d g1
      exact mX44_make n v0 v1 M r hz
    rcases fe_bc h with h | h
    · obtain ⟨v0, t0, rfl, g0⟩ := fe_tR_d h
      obtain ⟨v1, t1, rfl, g1⟩ := fe_tI_d g0
      obtain ⟨rfl, hz⟩ := fe_t0_d g1
      exact mX40_make n v0 v1 M r hz
    rcases fe_bc h with h | h
    · obtain ⟨v0, t0, rfl, g0⟩ := fe_tR_d h
      obtain ⟨v1, t1, rfl, g1⟩ := fe_tI_d g0
      obtain ⟨rfl, hz⟩ := fe_t0_d g1
      exact mX37_make n v0 v1 M r hz
    rcases fe_bc h with h | h
    · obtain ⟨v0, t0, rfl, g0⟩ := fe_tR_d h
      obtain ⟨v1, t1, rfl, g1⟩ := fe_tI_d g0
      obtain ⟨rfl, hz⟩ := fe_t0_d g1
      exact mX45_make v0 v1 M r hz
    exact fe_no h
  · intro i As M r h
    exact fe_no h
  · intro i As M r h
    exact fe_no h
theorem eX34_expand (g0 : Nat → Int32 → FM → Option (Int32 × FM)) (g27 : Int32 → Nat → FM → Option (Int32 × FM)) (g41 : Int32 → FM → Option (Int32 × FM)) (a0 : Nat) (a1 : Int32) (M : FM) : dX34_expand g0 g27 g41 0 [(0, .ref a0), (1, .int a1)] [] M = g0 a0 a1 M := by rfl
theorem mX34_expand (n : Nat) (a0 : Nat) (a1 : Int32) (M : FM) (r : Int32 × FM) (h : FX34_expand n a0 a1 M = some r) : fm_nx M ≤ fm_nx r.2 ∧ fm_ns M ≤ fm_ns r.2 :=
  fe_mono (L0 := [(0, .ref a0), (1, .int a1)]) (vX34_expand n) (by decide +kernel) (hX34_expand n) (fe_ki_k r) 0 rfl ((eX34_expand (FX34_expand_0 n ) (FX34_expand_27 n ) (FX34_expand_41 n ) a0 a1 M).trans h)
theorem zX34_expand {s0 : State} {H0 : Heap} {oa : Nat → Nat} {D : va_G} (K : fk s0 H0 oa D) (l : Launch) (n : Nat) (a0 : Nat) (a1 : Int32) (M : FM) (r : Int32 × FM) (h : FX34_expand n a0 a1 M = some r) : fs_Con (fk_E s0 H0 oa D) l 4 ⟨"BoardMachine$Halves$ShortUnit", "expand", "(I)I"⟩ prog_51_method_3_code 4 (Option.some Jvm.ClassFile.FieldType.int) [.ref a0, .int a1] M (some (.int r.1)) r.2 := by
  have o0 : fs_OS (sX34_expand (FX38_make n) (FX43_make n) (FX39_make n) (FX42_make n) (FX41_make n) (FX44_make n) (FX40_make n) (FX37_make n) FX45_make) 0 1 (fs_Con (fk_E s0 H0 oa D) l 3 ⟨"BoardMachine$Halves$Access", "make", "(I)I"⟩ prog_44_method_2_code 3 (Option.some Jvm.ClassFile.FieldType.int)) := by
    intro As M r h
    obtain ⟨v0, t0, rfl, g0⟩ := fe_tR_d h
    obtain ⟨v1, t1, rfl, g1⟩ := fe_tI_d g0
    obtain ⟨rfl, hz⟩ := fe_t0_d g1
    exact zX38_make K l n v0 v1 M r hz
  have o1 : fs_OS (sX34_expand (FX38_make n) (FX43_make n) (FX39_make n) (FX42_make n) (FX41_make n) (FX44_make n) (FX40_make n) (FX37_make n) FX45_make) 1 1 (fs_Con (fk_E s0 H0 oa D) l 3 ⟨"BoardMachine$Halves$Branch", "make", "(I)I"⟩ prog_45_method_2_code 2 (Option.some Jvm.ClassFile.FieldType.int)) := by
    intro As M r h
    obtain ⟨v0, t0, rfl, g0⟩ := fe_tR_d h
    obtain ⟨v1, t1, rfl, g1⟩ := fe_tI_d g0
    obtain ⟨rfl, hz⟩ := fe_t0_d g1
    exact zX43_make K l n v0 v1 M r hz
  have o2 : fs_OS (sX34_expand (FX38_make n) (FX43_make n) (FX39_make n) (FX42_make n) (FX41_make n) (FX44_make n) (FX40_make n) (FX37_make n) FX45_make) 2 1 (fs_Con (fk_E s0 H0 oa D) l 3 ⟨"BoardMachine$Halves$Immediate", "make", "(I)I"⟩ prog_46_method_2_code 2 (Option.some Jvm.ClassFile.FieldType.int)) := by
    intro As M r h
    obtain ⟨v0, t0, rfl, g0⟩ := fe_tR_d h
    obtain ⟨v1, t1, rfl, g1⟩ := fe_tI_d g0
    obtain ⟨rfl, hz⟩ := fe_t0_d g1
    exact zX39_make K l n v0 v1 M r hz
  have o3 : fs_OS (sX34_expand (FX38_make n) (FX43_make n) (FX39_make n) (FX42_make n) (FX41_make n) (FX44_make n) (FX40_make n) (FX37_make n) FX45_make) 3 1 (fs_Con (fk_E s0 H0 oa D) l 3 ⟨"BoardMachine$Halves$Jump", "make", "(I)I"⟩ prog_47_method_2_code 2 (Option.some Jvm.ClassFile.FieldType.int)) := by
    intro As M r h
    obtain ⟨v0, t0, rfl, g0⟩ := fe_tR_d h
    obtain ⟨v1, t1, rfl, g1⟩ := fe_tI_d g0
    obtain ⟨rfl, hz⟩ := fe_t0_d g1
    exact zX42_make K l n v0 v1 M r hz
  have o4 : fs_OS (sX34_expand (FX38_make n) (FX43_make n) (FX39_make n) (FX42_make n) (FX41_make n) (FX44_make n) (FX40_make n) (FX37_make n) FX45_make) 4 1 (fs_Con (fk_E s0 H0 oa D) l 3 ⟨"BoardMachine$Halves$Reckoning", "make", "(I)I"⟩ prog_50_method_2_code 4 (Option.some Jvm.ClassFile.FieldType.int)) := by
    intro As M r h
    obtain ⟨v0, t0, rfl, g0⟩ := fe_tR_d h
    obtain ⟨v1, t1, rfl, g1⟩ := fe_tI_d g0
    obtain ⟨rfl, hz⟩ := fe_t0_d g1
    exact zX41_make K l n v0 v1 M r hz
  have o5 : fs_OS (sX34_expand (FX38_make n) (FX43_make n) (FX39_make n) (FX42_make n) (FX41_make n) (FX44_make n) (FX40_make n) (FX37_make n) FX45_make) 5 1 (fs_Con (fk_E s0 H0 oa D) l 3 ⟨"BoardMachine$Halves$StackAccess", "make", "(I)I"⟩ prog_52_method_2_code 3 (Option.some Jvm.ClassFile.FieldType.int)) := by
    intro As M r h
    obtain ⟨v0, t0, rfl, g0⟩ := fe_tR_d h
    obtain ⟨v1, t1, rfl, g1⟩ := fe_tI_d g0
    obtain ⟨rfl, hz⟩ := fe_t0_d g1
    exact zX44_make K l n v0 v1 M r hz
  have o6 : fs_OS (sX34_expand (FX38_make n) (FX43_make n) (FX39_make n) (FX42_make n) (FX41_make n) (FX44_make n) (FX40_make n) (FX37_make n) FX45_make) 6 1 (fs_Con (fk_E s0 H0 oa D) l 3 ⟨"BoardMachine$Halves$StackOrUpper", "make", "(I)I"⟩ prog_53_method_2_code 3 (Option.some Jvm.ClassFile.FieldType.int)) := by
    intro As M r h
    obtain ⟨v0, t0, rfl, g0⟩ := fe_tR_d h
    obtain ⟨v1, t1, rfl, g1⟩ := fe_tI_d g0
    obtain ⟨rfl, hz⟩ := fe_t0_d g1
    exact zX40_make K l n v0 v1 M r hz
  have o7 : fs_OS (sX34_expand (FX38_make n) (FX43_make n) (FX39_make n) (FX42_make n) (FX41_make n) (FX44_make n) (FX40_make n) (FX37_make n) FX45_make) 7 1 (fs_Con (fk_E s0 H0 oa D) l 3 ⟨"BoardMachine$Halves$StackPlace", "make", "(I)I"⟩ prog_54_method_2_code 3 (Option.some Jvm.ClassFile.FieldType.int)) := by
    intro As M r h
    obtain ⟨v0, t0, rfl, g0⟩ := fe_tR_d h
    obtain ⟨v1, t1, rfl, g1⟩ := fe_tI_d g0
    obtain ⟨rfl, hz⟩ := fe_t0_d g1
    exact zX37_make K l n v0 v1 M r hz
  have o8 : fs_OS (sX34_expand (FX38_make n) (FX43_make n) (FX39_make n) (FX42_make n) (FX41_make n) (FX44_make n) (FX40_make n) (FX37_make n) FX45_make) 8 1 (fs_Con (fk_E s0 H0 oa D) l 3 ⟨"BoardMachine$Halves$Whole", "make", "(I)I"⟩ prog_55_method_2_code 3 (Option.some Jvm.ClassFile.FieldType.int)) := by
    intro As M r h
    obtain ⟨v0, t0, rfl, g0⟩ := fe_tR_d h
    obtain ⟨v1, t1, rfl, g1⟩ := fe_tI_d g0
    obtain ⟨rfl, hz⟩ := fe_t0_d g1
    exact zX45_make K l v0 v1 M r hz
  refine fs_method (own := "BoardMachine$Halves$ShortUnit") rfl (by decide) K.2.1 (by rw [fe_slen]; exact (Nat.le_of_ble_eq_true rfl)) (mX34_expand n a0 a1 M r h) (hX34_expand n) 0 rfl (L0 := [(0, .ref a0), (1, .int a1)]) (fun E => fe_args_e E [.ref a0, .int a1] 0) ((eX34_expand (FX34_expand_0 n ) (FX34_expand_27 n ) (FX34_expand_41 n ) a0 a1 M).trans h) (fe_ki_k r) (fun H hR => fs_nr_o (by decide) (by decide)) ?_
  intro p e s m args below meth c Q C hnm
  have hw : s0.WarmedH s.vm := C.2.2.2.2.1
  refine fe_all C fk_hwr cX34_expand [14, 38] (by decide +kernel) (fe_fil (cps := [(14, 17, .getfield 595804370), (38, 41, .invokeinterface 0 0)]) (by decide +kernel) ?_)
  refine fs_c1 (fs_getf (pc := 14) (n := 595804370) (idx := 13) (ref := "BoardMachine$Halves$ShortUnit") (O := "BoardMachine$Halves$ShortUnit") (name := "lines") (desc := "[LBoardMachine$Halves$Line;") C (by decide +kernel) (Or.inl (kw K hw q1249)) (fun _ h => h) (Nat.le_of_ble_eq_true rfl) (Nat.le_of_ble_eq_true rfl) (fs_one (⟨_, ff_52_142 s0 H0 oa D⟩))) ?_
  refine fs_c1 (fs_inv_table (pc := 38) (nx := 41) (i := 0) (k := 0) C rfl (List.forall_mem_cons.mpr ⟨⟨(Nat.le_of_ble_eq_true rfl), (Nat.le_of_ble_eq_true rfl), _, fs_lk_up (idx := 73) (x := ⟨"BoardMachine$Halves$Line", "make", "(I)I"⟩) (owner := "BoardMachine$Halves$Line") (y := ⟨"BoardMachine$Halves$Access", "make", "(I)I"⟩) (bytes := prog_44_method_2_code) (maxL := 3) (rt := (Option.some Jvm.ClassFile.FieldType.int)) (d := 3) C (Nat.le_of_ble_eq_true rfl) (Nat.le_of_ble_eq_true rfl) (by decide +kernel) (kw K hw q3110) (kw K hw q349) (kw K hw q3109) (kw K hw q3105) (kw K hw q3107) (va_Decl.abs (kD K hw q3106)) ⟨by decide, by decide⟩ rfl (Nat.le_of_ble_eq_true rfl) (Nat.le_of_ble_eq_true rfl) (fs_one (⟨_, rfl, kw K hw q3108⟩)), fs_con_mono, o0⟩, List.forall_mem_cons.mpr ⟨⟨(Nat.le_of_ble_eq_true rfl), (Nat.le_of_ble_eq_true rfl), _, fs_lk_up (idx := 73) (x := ⟨"BoardMachine$Halves$Line", "make", "(I)I"⟩) (owner := "BoardMachine$Halves$Line") (y := ⟨"BoardMachine$Halves$Branch", "make", "(I)I"⟩) (bytes := prog_45_method_2_code) (maxL := 2) (rt := (Option.some Jvm.ClassFile.FieldType.int)) (d := 3) C (Nat.le_of_ble_eq_true rfl) (Nat.le_of_ble_eq_true rfl) (by decide +kernel) (kw K hw q3136) (kw K hw q354) (kw K hw q3135) (kw K hw q3105) (kw K hw q3107) (va_Decl.abs (kD K hw q3106)) ⟨by decide, by decide⟩ rfl (Nat.le_of_ble_eq_true rfl) (Nat.le_of_ble_eq_true rfl) (fs_one (⟨_, rfl, kw K hw q3134⟩)), fs_con_mono, o1⟩, List.forall_mem_cons.mpr ⟨⟨(Nat.le_of_ble_eq_true rfl), (Nat.le_of_ble_eq_true rfl), _, fs_lk_up (idx := 73) (x := ⟨"BoardMachine$Halves$Line", "make", "(I)I"⟩) (owner := "BoardMachine$Halves$Line") (y := ⟨"BoardMachine$Halves$Immediate", "make", "(I)I"⟩) (bytes := prog_46_method_2_code) (maxL := 2) (rt := (Option.some Jvm.ClassFile.FieldType.int)) (d := 3) C (Nat.le_of_ble_eq_true rfl) (Nat.le_of_ble_eq_true rfl) (by decide +kernel) (kw K hw q3145) (kw K hw q350) (kw K hw q3144) (kw K hw q3105) (kw K hw q3107) (va_Decl.abs (kD K hw q3106)) ⟨by decide, by decide⟩ rfl (Nat.le_of_ble_eq_true rfl) (Nat.le_of_ble_eq_true rfl) (fs_one (⟨_, rfl, kw K hw q3143⟩)), fs_con_mono, o2⟩, List.forall_mem_cons.mpr ⟨⟨(Nat.le_of_ble_eq_true rfl), (Nat.le_of_ble_eq_true rfl), _, fs_lk_up (idx := 73) (x := ⟨"BoardMachine$Halves$Line", "make", "(I)I"⟩) (owner := "BoardMachine$Halves$Line") (y := ⟨"BoardMachine$Halves$Jump", "make", "(I)I"⟩) (bytes := prog_47_method_2_code) (maxL := 2) (rt := (Option.some Jvm.ClassFile.FieldType.int)) (d := 3) C (Nat.le_of_ble_eq_true rfl) (Nat.le_of_ble_eq_true rfl) (by decide +kernel) (kw K hw q3154) (kw K hw q353) (kw K hw q3153) (kw K hw q3105) (kw K hw q3107) (va_Decl.abs (kD K hw q3106)) ⟨by decide, by decide⟩ rfl (Nat.le_of_ble_eq_true rfl) (Nat.le_of_ble_eq_true rfl) (fs_one (⟨_, rfl, kw K hw q3152⟩)), fs_con_mono, o3⟩, List.forall_mem_cons.mpr ⟨⟨(Nat.le_of_ble_eq_true rfl), (Nat.le_of_ble_eq_true rfl), _, fs_lk_up (idx := 73) (x := ⟨"BoardMachine$Halves$Line", "make", "(I)I"⟩) (owner := "BoardMachine$Halves$Line") (y := ⟨"BoardMachine$Halves$Reckoning", "make", "(I)I"⟩) (bytes := prog_50_method_2_code) (maxL := 4) (rt := (Option.some Jvm.ClassFile.FieldType.int)) (d := 3) C (Nat.le_of_ble_eq_true rfl) (Nat.le_of_ble_eq_true rfl) (by decide +kernel) (kw K hw q3161) (kw K hw q352) (kw K hw q3160) (kw K hw q3105) (kw K hw q3107) (va_Decl.abs (kD K hw q3106)) ⟨by decide, by decide⟩ rfl (Nat.le_of_ble_eq_true rfl) (Nat.le_of_ble_eq_true rfl) (fs_one (⟨_, rfl, kw K hw q3159⟩)), fs_con_mono, o4⟩, List.forall_mem_cons.mpr ⟨⟨(Nat.le_of_ble_eq_true rfl), (Nat.le_of_ble_eq_true rfl), _, fs_lk_up (idx := 73) (x := ⟨"BoardMachine$Halves$Line", "make", "(I)I"⟩) (owner := "BoardMachine$Halves$Line") (y := ⟨"BoardMachine$Halves$StackAccess", "make", "(I)I"⟩) (bytes := prog_52_method_2_code) (maxL := 3) (rt := (Option.some Jvm.ClassFile.FieldType.int)) (d := 3) C (Nat.le_of_ble_eq_true rfl) (Nat.le_of_ble_eq_true rfl) (by decide +kernel) (kw K hw q3174) (kw K hw q355) (kw K hw q3173) (kw K hw q3105) (kw K hw q3107) (va_Decl.abs (kD K hw q3106)) ⟨by decide, by decide⟩ rfl (Nat.le_of_ble_eq_true rfl) (Nat.le_of_ble_eq_true rfl) (fs_one (⟨_, rfl, kw K hw q3172⟩)), fs_con_mono, o5⟩, List.forall_mem_cons.mpr ⟨⟨(Nat.le_of_ble_eq_true rfl), (Nat.le_of_ble_eq_true rfl), _, fs_lk_up (idx := 73) (x := ⟨"BoardMachine$Halves$Line", "make", "(I)I"⟩) (owner := "BoardMachine$Halves$Line") (y := ⟨"BoardMachine$Halves$StackOrUpper", "make", "(I)I"⟩) (bytes := prog_53_method_2_code) (maxL := 3) (rt := (Option.some Jvm.ClassFile.FieldType.int)) (d := 3) C (Nat.le_of_ble_eq_true rfl) (Nat.le_of_ble_eq_true rfl) (by decide +kernel) (kw K hw q3186) (kw K hw q351) (kw K hw q3185) (kw K hw q3105) (kw K hw q3107) (va_Decl.abs (kD K hw q3106)) ⟨by decide, by decide⟩ rfl (Nat.le_of_ble_eq_true rfl) (Nat.le_of_ble_eq_true rfl) (fs_one (⟨_, rfl, kw K hw q3184⟩)), fs_con_mono, o6⟩, List.forall_mem_cons.mpr ⟨⟨(Nat.le_of_ble_eq_true rfl), (Nat.le_of_ble_eq_true rfl), _, fs_lk_up (idx := 73) (x := ⟨"BoardMachine$Halves$Line", "make", "(I)I"⟩) (owner := "BoardMachine$Halves$Line") (y := ⟨"BoardMachine$Halves$StackPlace", "make", "(I)I"⟩) (bytes := prog_54_method_2_code) (maxL := 3) (rt := (Option.some Jvm.ClassFile.FieldType.int)) (d := 3) C (Nat.le_of_ble_eq_true rfl) (Nat.le_of_ble_eq_true rfl) (by decide +kernel) (kw K hw q3196) (kw K hw q348) (kw K hw q3195) (kw K hw q3105) (kw K hw q3107) (va_Decl.abs (kD K hw q3106)) ⟨by decide, by decide⟩ rfl (Nat.le_of_ble_eq_true rfl) (Nat.le_of_ble_eq_true rfl) (fs_one (⟨_, rfl, kw K hw q3194⟩)), fs_con_mono, o7⟩, List.forall_mem_cons.mpr ⟨⟨(Nat.le_of_ble_eq_true rfl), (Nat.le_of_ble_eq_true rfl), _, fs_lk_up (idx := 73) (x := ⟨"BoardMachine$Halves$Line", "make", "(I)I"⟩) (owner := "BoardMachine$Halves$Line") (y := ⟨"BoardMachine$Halves$Whole", "make", "(I)I"⟩) (bytes := prog_55_method_2_code) (maxL := 3) (rt := (Option.some Jvm.ClassFile.FieldType.int)) (d := 3) C (Nat.le_of_ble_eq_true rfl) (Nat.le_of_ble_eq_true rfl) (by decide +kernel) (kw K hw q3203) (kw K hw q356) (kw K hw q3202) (kw K hw q3105) (kw K hw q3107) (va_Decl.abs (kD K hw q3106)) ⟨by decide, by decide⟩ rfl (Nat.le_of_ble_eq_true rfl) (Nat.le_of_ble_eq_true rfl) (fs_one (⟨_, rfl, kw K hw q3201⟩)), fs_con_mono, o8⟩, List.forall_mem_nil _⟩⟩⟩⟩⟩⟩⟩⟩⟩)) ?_
  exact fs_c0
theorem hX46_keep : fe_H (sX46_keep FX11_pageOf) cX46_keep [0, 22] fe_kv [] 41 (fun _ => dX46_keep FX46_keep_0 FX46_keep_22) := by
  intro j pc L st M r hc h
  rcases fe_mem_c hc with rfl | hc
  · obtain ⟨w0, m0, h⟩ := fe_lR_d h
    obtain ⟨w1, m1, h⟩ := fe_lR_d h
    obtain ⟨w2, m2, h⟩ := fe_lL_d h
    obtain ⟨w4, m4, h⟩ := fe_lI_d h
    obtain ⟨w5, m5, h⟩ := fe_lI_d h
    obtain ⟨w6, m6, h⟩ := fe_lI_d h
    obtain ⟨rfl, hz⟩ := fe_t0_d h
    exact ⟨[(0, .ref w0), (1, .ref w1), (2, .long w2), (4, .int w4), (5, .int w5), (6, .int w6)], (fe_cs m0 (fe_cs m1 (fe_cs m2 (fe_cs m4 (fe_cs m5 (fe_cs m6 fe_nl)))))), Or.inr ((bX46_keep_0 FX11_pageOf FX46_keep_0 FX46_keep_22 w0 w1 w2 w4 w5 w6 M).symm.trans hz)⟩
  rcases fe_mem_c hc with rfl | hc
  · obtain ⟨w0, m0, h⟩ := fe_lR_d h
    obtain ⟨w1, m1, h⟩ := fe_lR_d h
    obtain ⟨w2, m2, h⟩ := fe_lL_d h
    obtain ⟨w4, m4, h⟩ := fe_lI_d h
    obtain ⟨w5, m5, h⟩ := fe_lI_d h
    obtain ⟨w6, m6, h⟩ := fe_lI_d h
    obtain ⟨s1, t1, rfl, g1⟩ := fe_tI_d h
    obtain ⟨s0, t0, rfl, g0⟩ := fe_tR_d g1
    obtain ⟨rfl, hz⟩ := fe_t0_d g0
    exact ⟨[(0, .ref w0), (1, .ref w1), (2, .long w2), (4, .int w4), (5, .int w5), (6, .int w6)], (fe_cs m0 (fe_cs m1 (fe_cs m2 (fe_cs m4 (fe_cs m5 (fe_cs m6 fe_nl)))))), Or.inr ((bX46_keep_22 FX11_pageOf FX46_keep_0 FX46_keep_22 w0 w1 w2 w4 w5 w6 s0 s1 M).symm.trans hz)⟩
  exact fe_mem_0 hc
theorem vX46_keep : fe_SB (sX46_keep FX11_pageOf) := by
  refine ⟨?_, ?_, ?_, ?_⟩
  · intro i As M r h
    exact fe_no h
  · intro i As M r h
    rcases fe_bc h with h | h
    · obtain ⟨v0, t0, rfl, g0⟩ := fe_tL_d h
      obtain ⟨rfl, hz⟩ := fe_t0_d g0
      exact mX11_pageOf v0 M r hz
    exact fe_no h
  · intro i As M r h
    exact fe_no h
  · intro i As M r h
    exact fe_no h
theorem eX46_keep (g0 : Nat → Nat → Int64 → Int32 → Int32 → Int32 → FM → Option (FM)) (g22 : Nat → Nat → Int64 → Int32 → Int32 → Int32 → Nat → Int32 → FM → Option (FM)) (a0 : Nat) (a1 : Nat) (a2 : Int64) (a4 : Int32) (a5 : Int32) (a6 : Int32) (M : FM) : dX46_keep g0 g22 0 [(0, .ref a0), (1, .ref a1), (2, .long a2), (4, .int a4), (5, .int a5), (6, .int a6)] [] M = g0 a0 a1 a2 a4 a5 a6 M := by rfl
theorem mX46_keep (a0 : Nat) (a1 : Nat) (a2 : Int64) (a4 : Int32) (a5 : Int32) (a6 : Int32) (M : FM) (r : FM) (h : FX46_keep a0 a1 a2 a4 a5 a6 M = some r) : fm_nx M ≤ fm_nx r ∧ fm_ns M ≤ fm_ns r :=
  fe_mono (L0 := [(0, .ref a0), (1, .ref a1), (2, .long a2), (4, .int a4), (5, .int a5), (6, .int a6)]) (vX46_keep) (by decide +kernel) (hX46_keep) (fe_kv_k r) 0 rfl ((eX46_keep FX46_keep_0 FX46_keep_22 a0 a1 a2 a4 a5 a6 M).trans h)
theorem zX46_keep {s0 : State} {H0 : Heap} {oa : Nat → Nat} {D : va_G} (K : fk s0 H0 oa D) (l : Launch) (a0 : Nat) (a1 : Nat) (a2 : Int64) (a4 : Int32) (a5 : Int32) (a6 : Int32) (M : FM) (r : FM) (h : FX46_keep a0 a1 a2 a4 a5 a6 M = some r) : fs_Con (fk_E s0 H0 oa D) l 2 ⟨"BoardMachine$Processor", "keep", "(LBoardMachine$Kept;JIII)V"⟩ prog_86_method_14_code 7 (Option.none : Option Jvm.ClassFile.FieldType) [.ref a0, .ref a1, .long a2, .int a4, .int a5, .int a6] M none r := by
  have o0 : fs_OS (sX46_keep FX11_pageOf) 0 1 (fs_Con (fk_E s0 H0 oa D) l 1 ⟨"BoardMachine$Memories$Ram", "pageOf", "(J)I"⟩ prog_82_method_3_code 2 (Option.some Jvm.ClassFile.FieldType.int)) := by
    intro As M r h
    obtain ⟨v0, t0, rfl, g0⟩ := fe_tL_d h
    obtain ⟨rfl, hz⟩ := fe_t0_d g0
    exact zX11_pageOf K l v0 M r hz
  refine fs_method (own := "BoardMachine$Processor") rfl (by decide) K.2.1 (by rw [fe_slen]; exact (Nat.le_of_ble_eq_true rfl)) (mX46_keep a0 a1 a2 a4 a5 a6 M r h) (hX46_keep) 0 rfl (L0 := [(0, .ref a0), (1, .ref a1), (2, .long a2), (4, .int a4), (5, .int a5), (6, .int a6)]) (fun E => fe_args_e E [.ref a0, .ref a1, .long a2, .int a4, .int a5, .int a6] 0) ((eX46_keep FX46_keep_0 FX46_keep_22 a0 a1 a2 a4 a5 a6 M).trans h) (fe_kv_k r) (fun H hR => fs_nr_o (by decide) (by decide)) ?_
  intro p e s m args below meth c Q C hnm
  have hw : s0.WarmedH s.vm := C.2.2.2.2.1
  refine fe_all C fk_hwr cX46_keep [2, 10, 22, 27, 32, 35, 38, 42, 46, 52, 58, 64] (by decide +kernel) (fe_fil (cps := [(2, 5, .jsr_w (4095)), (10, 13, .jsr_w (4096)), (22, 25, .putfield 755241223), (27, 30, .putfield 759435525), (32, 35, .getfield 881111342), (35, 38, .getfield 75542574), (38, 41, .getfield 855937318), (42, 45, .invokestatic 5), (46, 49, .putfield 763629829), (52, 55, .putfield 767824132), (58, 61, .putfield 776212740), (64, 67, .putfield 772018436)]) (by decide +kernel) ?_)
  refine fs_c1 (fs_ldcl (pc := 2) (idx := 283) (v := 4095) C (by decide +kernel) (kw K hw q3216)) ?_
  refine fs_c1 (fs_ldcl (pc := 10) (idx := 285) (v := 4096) C (by decide +kernel) (kw K hw q3217)) ?_
  refine fs_c1 (fs_putf (pc := 22) (n := 755241223) (idx := 301) (ref := "BoardMachine$Kept") (O := "BoardMachine$Kept") (name := "is") (desc := "Z") (fin := false) (ty := .boolean) C (by decide +kernel) (Or.inl ⟨rfl, Or.inr ⟨_, kF K hw q2057⟩⟩) (fun _ h => h) (Nat.le_of_ble_eq_true rfl) (Nat.le_of_ble_eq_true rfl) (Nat.le_of_ble_eq_true rfl) rfl rfl (by decide) (fs_one (⟨rfl, ff_65_180 s0 H0 oa D⟩))) ?_
  refine fs_c1 (fs_putf (pc := 27) (n := 759435525) (idx := 304) (ref := "BoardMachine$Kept") (O := "BoardMachine$Kept") (name := "at") (desc := "J") (fin := false) (ty := .long) C (by decide +kernel) (Or.inl ⟨rfl, Or.inr ⟨_, kF K hw q2058⟩⟩) (fun _ h => h) (Nat.le_of_ble_eq_true rfl) (Nat.le_of_ble_eq_true rfl) (Nat.le_of_ble_eq_true rfl) rfl rfl (by decide) (fs_one (⟨rfl, ff_65_181 s0 H0 oa D⟩))) ?_
  refine fs_c1 (fs_getf (pc := 32) (n := 881111342) (idx := 42) (ref := "BoardMachine$Processor") (O := "BoardMachine$Processor") (name := "board") (desc := "LBoardMachine$Board;") C (by decide +kernel) (Or.inl (kw K hw q2077)) (fun _ h => h) (Nat.le_of_ble_eq_true rfl) (Nat.le_of_ble_eq_true rfl) (fs_one (⟨_, ff_75_210 s0 H0 oa D⟩))) ?_
  refine fs_c1 (fs_getf (pc := 35) (n := 75542574) (idx := 63) (ref := "BoardMachine$Board") (O := "BoardMachine$Board") (name := "ram") (desc := "LBoardMachine$Memories$Ram;") C (by decide +kernel) (Or.inr ⟨_, kF K hw q1037⟩) (fun _ h => h) (Nat.le_of_ble_eq_true rfl) (Nat.le_of_ble_eq_true rfl) (fs_one (⟨_, ff_11_18 s0 H0 oa D⟩))) ?_
  refine fs_c1 (fs_getf (pc := 38) (n := 855937318) (idx := 307) (ref := "BoardMachine$Memories$Ram") (O := "BoardMachine$Memories$Ram") (name := "writes") (desc := "[J") C (by decide +kernel) (Or.inr ⟨_, kF K hw q694⟩) (fun _ h => h) (Nat.le_of_ble_eq_true rfl) (Nat.le_of_ble_eq_true rfl) (fs_one (⟨_, ff_73_204 s0 H0 oa D⟩))) ?_
  refine fs_c1 (fs_inv_static (pc := 42) (n := 5) C (fs_lk_static (idx := 310) (y := ⟨"BoardMachine$Memories$Ram", "pageOf", "(J)I"⟩) (bytes := prog_82_method_3_code) (maxL := 2) (rt := (Option.some Jvm.ClassFile.FieldType.int)) (d := 1) C (by decide +kernel) (kw K hw q2391) (kw K hw q321) (kw K hw q2390) (Or.inr ⟨_, kM K hw q3099⟩) ⟨by decide, by decide⟩ rfl (Nat.le_of_ble_eq_true rfl) (Nat.le_of_ble_eq_true rfl)) fs_con_mono o0) ?_
  refine fs_c1 (fs_putf (pc := 46) (n := 763629829) (idx := 314) (ref := "BoardMachine$Kept") (O := "BoardMachine$Kept") (name := "writes") (desc := "J") (fin := false) (ty := .long) C (by decide +kernel) (Or.inl ⟨rfl, Or.inr ⟨_, kF K hw q2059⟩⟩) (fun _ h => h) (Nat.le_of_ble_eq_true rfl) (Nat.le_of_ble_eq_true rfl) (Nat.le_of_ble_eq_true rfl) rfl rfl (by decide) (fs_one (⟨rfl, ff_65_182 s0 H0 oa D⟩))) ?_
  refine fs_c1 (fs_putf (pc := 52) (n := 767824132) (idx := 316) (ref := "BoardMachine$Kept") (O := "BoardMachine$Kept") (name := "word") (desc := "I") (fin := false) (ty := .int) C (by decide +kernel) (Or.inl ⟨rfl, Or.inr ⟨_, kF K hw q2060⟩⟩) (fun _ h => h) (Nat.le_of_ble_eq_true rfl) (Nat.le_of_ble_eq_true rfl) (Nat.le_of_ble_eq_true rfl) rfl rfl (by decide) (fs_one (⟨rfl, ff_65_183 s0 H0 oa D⟩))) ?_
  refine fs_c1 (fs_putf (pc := 58) (n := 776212740) (idx := 319) (ref := "BoardMachine$Kept") (O := "BoardMachine$Kept") (name := "raw") (desc := "I") (fin := false) (ty := .int) C (by decide +kernel) (Or.inl ⟨rfl, Or.inr ⟨_, kF K hw q2062⟩⟩) (fun _ h => h) (Nat.le_of_ble_eq_true rfl) (Nat.le_of_ble_eq_true rfl) (Nat.le_of_ble_eq_true rfl) rfl rfl (by decide) (fs_one (⟨rfl, ff_65_185 s0 H0 oa D⟩))) ?_
  refine fs_c1 (fs_putf (pc := 64) (n := 772018436) (idx := 320) (ref := "BoardMachine$Kept") (O := "BoardMachine$Kept") (name := "length") (desc := "I") (fin := false) (ty := .int) C (by decide +kernel) (Or.inl ⟨rfl, Or.inr ⟨_, kF K hw q2061⟩⟩) (fun _ h => h) (Nat.le_of_ble_eq_true rfl) (Nat.le_of_ble_eq_true rfl) (Nat.le_of_ble_eq_true rfl) rfl rfl (by decide) (fs_one (⟨rfl, ff_65_184 s0 H0 oa D⟩))) ?_
  exact fs_c0
