/-! contracts of methods, printed by gen/snd.py -/
set_option maxRecDepth 100000
set_option maxHeartbeats 4000000
theorem hX59_putFlags : fe_H (sX59_putFlags) cX59_putFlags [0] fe_kv [] 20 (fun _ => dX59_putFlags FX59_putFlags_0) := by
  intro j pc L st M r hc h
  rcases fe_mem_c hc with rfl | hc
  · obtain ⟨w0, m0, h⟩ := fe_lR_d h
    obtain ⟨w1, m1, h⟩ := fe_lI_d h
    obtain ⟨rfl, hz⟩ := fe_t0_d h
    exact ⟨[(0, .ref w0), (1, .int w1)], (fe_cs m0 (fe_cs m1 fe_nl)), Or.inr ((bX59_putFlags_0 FX59_putFlags_0 w0 w1 M).symm.trans hz)⟩
  exact fe_mem_0 hc
theorem vX59_putFlags : fe_SB (sX59_putFlags) := by
  refine ⟨?_, ?_, ?_, ?_⟩
  · intro i As M r h
    exact fe_no h
  · intro i As M r h
    exact fe_no h
  · intro i As M r h
    exact fe_no h
  · intro i As M r h
    exact fe_no h
theorem eX59_putFlags (g0 : Nat → Int32 → FM → Option (FM)) (a0 : Nat) (a1 : Int32) (M : FM) : dX59_putFlags g0 0 [(0, .ref a0), (1, .int a1)] [] M = g0 a0 a1 M := by rfl
theorem mX59_putFlags (a0 : Nat) (a1 : Int32) (M : FM) (r : FM) (h : FX59_putFlags a0 a1 M = some r) : fm_nx M ≤ fm_nx r ∧ fm_ns M ≤ fm_ns r :=
  fe_mono (L0 := [(0, .ref a0), (1, .int a1)]) (vX59_putFlags) (by decide +kernel) (hX59_putFlags) (fe_kv_k r) 0 rfl ((eX59_putFlags FX59_putFlags_0 a0 a1 M).trans h)
theorem zX59_putFlags {s0 : State} {H0 : Heap} {oa : Nat → Nat} {D : va_G} (K : fk s0 H0 oa D) (l : Launch) (a0 : Nat) (a1 : Int32) (M : FM) (r : FM) (h : FX59_putFlags a0 a1 M = some r) : fs_Con (fk_E s0 H0 oa D) l 1 ⟨"BoardMachine$Floats$FloatUnit", "putFlags", "(I)V"⟩ prog_29_method_20_code 2 (Option.none : Option Jvm.ClassFile.FieldType) [.ref a0, .int a1] M none r := by
  refine fs_method (own := "BoardMachine$Floats$FloatUnit") rfl (by decide) K.2.1 (by rw [fe_slen]; exact (Nat.le_of_ble_eq_true rfl)) (mX59_putFlags a0 a1 M r h) (hX59_putFlags) 0 rfl (L0 := [(0, .ref a0), (1, .int a1)]) (fun E => fe_args_e E [.ref a0, .int a1] 0) ((eX59_putFlags FX59_putFlags_0 a0 a1 M).trans h) (fe_kv_k r) (fun H hR => fs_nr_o (by decide) (by decide)) ?_
  intro p e s m args below meth c Q C hnm
  have hw : s0.WarmedH s.vm := C.2.2.2.2.1
  refine fe_all C fk_hwr cX59_putFlags [1, 8, 13] (by decide +kernel) (fe_fil (cps := [(1, 4, .getfield 394395778), (8, 11, .putfield 381808764), (13, 16, .putfield 402784387)]) (by decide +kernel) ?_)
  refine fs_c1 (fs_getf (pc := 1) (n := 394395778) (idx := 18) (ref := "BoardMachine$Floats$FloatUnit") (O := "BoardMachine$Floats$FloatUnit") (name := "flags") (desc := "LBoardMachine$Floats$Flags;") C (by decide +kernel) (Or.inl (kw K hw q1609)) (fun _ h => h) (Nat.le_of_ble_eq_true rfl) (Nat.le_of_ble_eq_true rfl) (fs_one (⟨_, ff_32_94 s0 H0 oa D⟩))) ?_
  refine fs_c1 (fs_putf (pc := 8) (n := 381808764) (idx := 250) (ref := "BoardMachine$Floats$Flags") (O := "BoardMachine$Floats$Flags") (name := "set") (desc := "I") (fin := false) (ty := .int) C (by decide +kernel) (Or.inl ⟨rfl, Or.inr ⟨_, kF K hw q1440⟩⟩) (fun _ h => h) (Nat.le_of_ble_eq_true rfl) (Nat.le_of_ble_eq_true rfl) (Nat.le_of_ble_eq_true rfl) rfl rfl (by decide) (fs_one (⟨rfl, ff_31_91 s0 H0 oa D⟩))) ?_
  refine fs_c1 (fs_putf (pc := 13) (n := 402784387) (idx := 130) (ref := "BoardMachine$Floats$FloatUnit") (O := "BoardMachine$Floats$FloatUnit") (name := "written") (desc := "Z") (fin := false) (ty := .boolean) C (by decide +kernel) (Or.inl ⟨rfl, Or.inl (kw K hw q1613)⟩) (fun _ h => h) (Nat.le_of_ble_eq_true rfl) (Nat.le_of_ble_eq_true rfl) (Nat.le_of_ble_eq_true rfl) rfl rfl (by decide) (fs_one (⟨rfl, ff_32_96 s0 H0 oa D⟩))) ?_
  exact fs_c0
theorem hX59_putMode : fe_H (sX59_putMode) cX59_putMode [0] fe_kv [] 20 (fun _ => dX59_putMode FX59_putMode_0) := by
  intro j pc L st M r hc h
  rcases fe_mem_c hc with rfl | hc
  · obtain ⟨w0, m0, h⟩ := fe_lR_d h
    obtain ⟨w1, m1, h⟩ := fe_lI_d h
    obtain ⟨rfl, hz⟩ := fe_t0_d h
    exact ⟨[(0, .ref w0), (1, .int w1)], (fe_cs m0 (fe_cs m1 fe_nl)), Or.inr ((bX59_putMode_0 FX59_putMode_0 w0 w1 M).symm.trans hz)⟩
  exact fe_mem_0 hc
theorem vX59_putMode : fe_SB (sX59_putMode) := by
  refine ⟨?_, ?_, ?_, ?_⟩
  · intro i As M r h
    exact fe_no h
  · intro i As M r h
    exact fe_no h
  · intro i As M r h
    exact fe_no h
  · intro i As M r h
    exact fe_no h
theorem eX59_putMode (g0 : Nat → Int32 → FM → Option (FM)) (a0 : Nat) (a1 : Int32) (M : FM) : dX59_putMode g0 0 [(0, .ref a0), (1, .int a1)] [] M = g0 a0 a1 M := by rfl
theorem mX59_putMode (a0 : Nat) (a1 : Int32) (M : FM) (r : FM) (h : FX59_putMode a0 a1 M = some r) : fm_nx M ≤ fm_nx r ∧ fm_ns M ≤ fm_ns r :=
  fe_mono (L0 := [(0, .ref a0), (1, .int a1)]) (vX59_putMode) (by decide +kernel) (hX59_putMode) (fe_kv_k r) 0 rfl ((eX59_putMode FX59_putMode_0 a0 a1 M).trans h)
theorem zX59_putMode {s0 : State} {H0 : Heap} {oa : Nat → Nat} {D : va_G} (K : fk s0 H0 oa D) (l : Launch) (a0 : Nat) (a1 : Int32) (M : FM) (r : FM) (h : FX59_putMode a0 a1 M = some r) : fs_Con (fk_E s0 H0 oa D) l 1 ⟨"BoardMachine$Floats$FloatUnit", "putMode", "(I)V"⟩ prog_29_method_21_code 2 (Option.none : Option Jvm.ClassFile.FieldType) [.ref a0, .int a1] M none r := by
  refine fs_method (own := "BoardMachine$Floats$FloatUnit") rfl (by decide) K.2.1 (by rw [fe_slen]; exact (Nat.le_of_ble_eq_true rfl)) (mX59_putMode a0 a1 M r h) (hX59_putMode) 0 rfl (L0 := [(0, .ref a0), (1, .int a1)]) (fun E => fe_args_e E [.ref a0, .int a1] 0) ((eX59_putMode FX59_putMode_0 a0 a1 M).trans h) (fe_kv_k r) (fun H hR => fs_nr_o (by decide) (by decide)) ?_
  intro p e s m args below meth c Q C hnm
  have hw : s0.WarmedH s.vm := C.2.2.2.2.1
  refine fe_all C fk_hwr cX59_putMode [5, 10] (by decide +kernel) (fe_fil (cps := [(5, 8, .putfield 398590080), (10, 13, .putfield 402784387)]) (by decide +kernel) ?_)
  refine fs_c1 (fs_putf (pc := 5) (n := 398590080) (idx := 107) (ref := "BoardMachine$Floats$FloatUnit") (O := "BoardMachine$Floats$FloatUnit") (name := "mode") (desc := "I") (fin := false) (ty := .int) C (by decide +kernel) (Or.inl ⟨rfl, Or.inl (kw K hw q1611)⟩) (fun _ h => h) (Nat.le_of_ble_eq_true rfl) (Nat.le_of_ble_eq_true rfl) (Nat.le_of_ble_eq_true rfl) rfl rfl (by decide) (fs_one (⟨rfl, ff_32_95 s0 H0 oa D⟩))) ?_
  refine fs_c1 (fs_putf (pc := 10) (n := 402784387) (idx := 130) (ref := "BoardMachine$Floats$FloatUnit") (O := "BoardMachine$Floats$FloatUnit") (name := "written") (desc := "Z") (fin := false) (ty := .boolean) C (by decide +kernel) (Or.inl ⟨rfl, Or.inl (kw K hw q1613)⟩) (fun _ h => h) (Nat.le_of_ble_eq_true rfl) (Nat.le_of_ble_eq_true rfl) (Nat.le_of_ble_eq_true rfl) rfl rfl (by decide) (fs_one (⟨rfl, ff_32_96 s0 H0 oa D⟩))) ?_
  exact fs_c0
theorem hX59_calm : fe_H (sX59_calm) cX59_calm [0] fe_kv [] 20 (fun _ => dX59_calm FX59_calm_0) := by
  intro j pc L st M r hc h
  rcases fe_mem_c hc with rfl | hc
  · obtain ⟨w0, m0, h⟩ := fe_lR_d h
    obtain ⟨rfl, hz⟩ := fe_t0_d h
    exact ⟨[(0, .ref w0)], (fe_cs m0 fe_nl), Or.inr ((bX59_calm_0 FX59_calm_0 w0 M).symm.trans hz)⟩
  exact fe_mem_0 hc
theorem vX59_calm : fe_SB (sX59_calm) := by
  refine ⟨?_, ?_, ?_, ?_⟩
  · intro i As M r h
    exact fe_no h
  · intro i As M r h
    exact fe_no h
  · intro i As M r h
    exact fe_no h
  · intro i As M r h
    exact fe_no h
theorem eX59_calm (g0 : Nat → FM → Option (FM)) (a0 : Nat) (M : FM) : dX59_calm g0 0 [(0, .ref a0)] [] M = g0 a0 M := by rfl
theorem mX59_calm (a0 : Nat) (M : FM) (r : FM) (h : FX59_calm a0 M = some r) : fm_nx M ≤ fm_nx r ∧ fm_ns M ≤ fm_ns r :=
  fe_mono (L0 := [(0, .ref a0)]) (vX59_calm) (by decide +kernel) (hX59_calm) (fe_kv_k r) 0 rfl ((eX59_calm FX59_calm_0 a0 M).trans h)
theorem zX59_calm {s0 : State} {H0 : Heap} {oa : Nat → Nat} {D : va_G} (K : fk s0 H0 oa D) (l : Launch) (a0 : Nat) (M : FM) (r : FM) (h : FX59_calm a0 M = some r) : fs_Con (fk_E s0 H0 oa D) l 1 ⟨"BoardMachine$Floats$FloatUnit", "calm", "()V"⟩ prog_29_method_23_code 1 (Option.none : Option Jvm.ClassFile.FieldType) [.ref a0] M none r := by
  refine fs_method (own := "BoardMachine$Floats$FloatUnit") rfl (by decide) K.2.1 (by rw [fe_slen]; exact (Nat.le_of_ble_eq_true rfl)) (mX59_calm a0 M r h) (hX59_calm) 0 rfl (L0 := [(0, .ref a0)]) (fun E => fe_args_e E [.ref a0] 0) ((eX59_calm FX59_calm_0 a0 M).trans h) (fe_kv_k r) (fun H hR => fs_nr_o (by decide) (by decide)) ?_
  intro p e s m args below meth c Q C hnm
  have hw : s0.WarmedH s.vm := C.2.2.2.2.1
  refine fe_all C fk_hwr cX59_calm [2, 6, 10] (by decide +kernel) (fe_fil (cps := [(2, 5, .putfield 402784387), (6, 9, .getfield 394395778), (10, 13, .putfield 386003071)]) (by decide +kernel) ?_)
  refine fs_c1 (fs_putf (pc := 2) (n := 402784387) (idx := 130) (ref := "BoardMachine$Floats$FloatUnit") (O := "BoardMachine$Floats$FloatUnit") (name := "written") (desc := "Z") (fin := false) (ty := .boolean) C (by decide +kernel) (Or.inl ⟨rfl, Or.inl (kw K hw q1613)⟩) (fun _ h => h) (Nat.le_of_ble_eq_true rfl) (Nat.le_of_ble_eq_true rfl) (Nat.le_of_ble_eq_true rfl) rfl rfl (by decide) (fs_one (⟨rfl, ff_32_96 s0 H0 oa D⟩))) ?_
  refine fs_c1 (fs_getf (pc := 6) (n := 394395778) (idx := 18) (ref := "BoardMachine$Floats$FloatUnit") (O := "BoardMachine$Floats$FloatUnit") (name := "flags") (desc := "LBoardMachine$Floats$Flags;") C (by decide +kernel) (Or.inl (kw K hw q1609)) (fun _ h => h) (Nat.le_of_ble_eq_true rfl) (Nat.le_of_ble_eq_true rfl) (fs_one (⟨_, ff_32_94 s0 H0 oa D⟩))) ?_
  refine fs_c1 (fs_putf (pc := 10) (n := 386003071) (idx := 253) (ref := "BoardMachine$Floats$Flags") (O := "BoardMachine$Floats$Flags") (name := "raised") (desc := "Z") (fin := false) (ty := .boolean) C (by decide +kernel) (Or.inl ⟨rfl, Or.inr ⟨_, kF K hw q1443⟩⟩) (fun _ h => h) (Nat.le_of_ble_eq_true rfl) (Nat.le_of_ble_eq_true rfl) (Nat.le_of_ble_eq_true rfl) rfl rfl (by decide) (fs_one (⟨rfl, ff_31_92 s0 H0 oa D⟩))) ?_
  exact fs_c0
theorem hX46_table : fe_H (sX46_table) cX46_table [0] fe_ka [] 20 (fun _ => dX46_table FX46_table_0) := by
  intro j pc L st M r hc h
  rcases fe_mem_c hc with rfl | hc
  · obtain ⟨w0, m0, h⟩ := fe_lR_d h
    obtain ⟨rfl, hz⟩ := fe_t0_d h
    exact ⟨[(0, .ref w0)], (fe_cs m0 fe_nl), Or.inr ((bX46_table_0 FX46_table_0 w0 M).symm.trans hz)⟩
  exact fe_mem_0 hc
theorem vX46_table : fe_SB (sX46_table) := by
  refine ⟨?_, ?_, ?_, ?_⟩
  · intro i As M r h
    exact fe_no h
  · intro i As M r h
    exact fe_no h
  · intro i As M r h
    exact fe_no h
  · intro i As M r h
    exact fe_no h
theorem eX46_table (g0 : Nat → FM → Option (Nat × FM)) (a0 : Nat) (M : FM) : dX46_table g0 0 [(0, .ref a0)] [] M = g0 a0 M := by rfl
theorem mX46_table (a0 : Nat) (M : FM) (r : Nat × FM) (h : FX46_table a0 M = some r) : fm_nx M ≤ fm_nx r.2 ∧ fm_ns M ≤ fm_ns r.2 :=
  fe_mono (L0 := [(0, .ref a0)]) (vX46_table) (by decide +kernel) (hX46_table) (fe_ka_k r) 0 rfl ((eX46_table FX46_table_0 a0 M).trans h)
theorem zX46_table {s0 : State} {H0 : Heap} {oa : Nat → Nat} {D : va_G} (K : fk s0 H0 oa D) (l : Launch) (a0 : Nat) (M : FM) (r : Nat × FM) (h : FX46_table a0 M = some r) : fs_Con (fk_E s0 H0 oa D) l 1 ⟨"BoardMachine$Processor", "table", "()LBoardMachine$Controls$Masked;"⟩ prog_86_method_5_code 1 (Option.some (Jvm.ClassFile.FieldType.object "BoardMachine$Controls$Masked")) [.ref a0] M (some (.ref r.1)) r.2 := by
  refine fs_method (own := "BoardMachine$Processor") rfl (by decide) K.2.1 (by rw [fe_slen]; exact (Nat.le_of_ble_eq_true rfl)) (mX46_table a0 M r h) (hX46_table) 0 rfl (L0 := [(0, .ref a0)]) (fun E => fe_args_e E [.ref a0] 0) ((eX46_table FX46_table_0 a0 M).trans h) (fe_ka_k r) (fun H hR => fs_nr_o (by decide) (by decide)) ?_
  intro p e s m args below meth c Q C hnm
  have hw : s0.WarmedH s.vm := C.2.2.2.2.1
  refine fe_all C fk_hwr cX46_table [1, 4, 11] (by decide +kernel) (fe_fil (cps := [(1, 4, .getfield 893694254), (4, 7, .getfield 104906802), (11, 14, .checkcast 14353)]) (by decide +kernel) ?_)
  refine fs_c1 (fs_getf (pc := 1) (n := 893694254) (idx := 55) (ref := "BoardMachine$Processor") (O := "BoardMachine$Processor") (name := "controls") (desc := "LBoardMachine$Controls$ControlUnit;") C (by decide +kernel) (Or.inl (kw K hw q2082)) (fun _ h => h) (Nat.le_of_ble_eq_true rfl) (Nat.le_of_ble_eq_true rfl) (fs_one (⟨_, ff_75_213 s0 H0 oa D⟩))) ?_
  refine fs_c1 (fs_getf (pc := 4) (n := 104906802) (idx := 225) (ref := "BoardMachine$Controls$ControlUnit") (O := "BoardMachine$Controls$ControlUnit") (name := "table") (desc := "[LBoardMachine$Controls$Register;") C (by decide +kernel) (Or.inr ⟨_, kF K hw q1852⟩) (fun _ h => h) (Nat.le_of_ble_eq_true rfl) (Nat.le_of_ble_eq_true rfl) (fs_one (⟨_, ff_12_25 s0 H0 oa D⟩))) ?_
  refine fs_c1 (fs_cast (pc := 11) (n := 14353) (idx := 164) (nm := "BoardMachine$Controls$Masked") C (by decide +kernel) (kw K hw q2460) (Nat.le_of_ble_eq_true rfl) (Nat.le_of_ble_eq_true rfl) (fs_rc (⟨_, rfl, kC K hw q6520⟩) (fs_rc (⟨_, rfl, kC K hw q6521⟩) (fs_rc (⟨_, rfl, kC K hw q6522⟩) (fs_one (⟨_, rfl, kC K hw q6523⟩)))))) ?_
  exact fs_c0
theorem hX46_resetBank : fe_H (sX46_resetBank) cX46_resetBank [0] fe_kv [] 30 (fun _ => dX46_resetBank FX46_resetBank_0) := by
  intro j pc L st M r hc h
  rcases fe_mem_c hc with rfl | hc
  · obtain ⟨w0, m0, h⟩ := fe_lR_d h
    obtain ⟨rfl, hz⟩ := fe_t0_d h
    exact ⟨[(0, .ref w0)], (fe_cs m0 fe_nl), Or.inr ((bX46_resetBank_0 FX46_resetBank_0 w0 M).symm.trans hz)⟩
  exact fe_mem_0 hc
theorem vX46_resetBank : fe_SB (sX46_resetBank) := by
  refine ⟨?_, ?_, ?_, ?_⟩
  · intro i As M r h
    exact fe_no h
  · intro i As M r h
    exact fe_no h
  · intro i As M r h
    exact fe_no h
  · intro i As M r h
    exact fe_no h
theorem eX46_resetBank (g0 : Nat → FM → Option (FM)) (a0 : Nat) (M : FM) : dX46_resetBank g0 0 [(0, .ref a0)] [] M = g0 a0 M := by rfl
theorem mX46_resetBank (a0 : Nat) (M : FM) (r : FM) (h : FX46_resetBank a0 M = some r) : fm_nx M ≤ fm_nx r ∧ fm_ns M ≤ fm_ns r :=
  fe_mono (L0 := [(0, .ref a0)]) (vX46_resetBank) (by decide +kernel) (hX46_resetBank) (fe_kv_k r) 0 rfl ((eX46_resetBank FX46_resetBank_0 a0 M).trans h)
theorem zX46_resetBank {s0 : State} {H0 : Heap} {oa : Nat → Nat} {D : va_G} (K : fk s0 H0 oa D) (l : Launch) (a0 : Nat) (M : FM) (r : FM) (h : FX46_resetBank a0 M = some r) : fs_Con (fk_E s0 H0 oa D) l 1 ⟨"BoardMachine$Processor", "resetBank", "(LBoardMachine$Controls$TrapBank;)V"⟩ prog_86_method_4_code 1 (Option.none : Option Jvm.ClassFile.FieldType) [.ref a0] M none r := by
  refine fs_method (own := "BoardMachine$Processor") rfl (by decide) K.2.1 (by rw [fe_slen]; exact (Nat.le_of_ble_eq_true rfl)) (mX46_resetBank a0 M r h) (hX46_resetBank) 0 rfl (L0 := [(0, .ref a0)]) (fun E => fe_args_e E [.ref a0] 0) ((eX46_resetBank FX46_resetBank_0 a0 M).trans h) (fe_kv_k r) (fun H hR => fs_nr_o (by decide) (by decide)) ?_
  intro p e s m args below meth c Q C hnm
  have hw : s0.WarmedH s.vm := C.2.2.2.2.1
  refine fe_all C fk_hwr cX46_resetBank [1, 5, 9, 13, 17, 21, 25, 29, 33, 37, 41, 45] (by decide +kernel) (fe_fil (cps := [(1, 4, .getfield 205602898), (5, 8, .putfield 172023877), (9, 12, .getfield 209797202), (13, 16, .putfield 172023877), (17, 20, .getfield 213991506), (21, 24, .putfield 172023877), (25, 28, .getfield 218185810), (29, 32, .putfield 172023877), (33, 36, .getfield 222380114), (37, 40, .putfield 172023877), (41, 44, .getfield 226574418), (45, 48, .putfield 172023877)]) (by decide +kernel) ?_)
  refine fs_c1 (fs_getf (pc := 1) (n := 205602898) (idx := 205) (ref := "BoardMachine$Controls$TrapBank") (O := "BoardMachine$Controls$TrapBank") (name := "vectors") (desc := "LBoardMachine$Controls$Masked;") C (by decide +kernel) (Or.inr ⟨_, kF K hw q1769⟩) (fun _ h => h) (Nat.le_of_ble_eq_true rfl) (Nat.le_of_ble_eq_true rfl) (fs_one (⟨_, ff_20_49 s0 H0 oa D⟩))) ?_
  refine fs_c1 (fs_putf (pc := 5) (n := 172023877) (idx := 163) (ref := "BoardMachine$Controls$Masked") (O := "BoardMachine$Controls$Masked") (name := "held") (desc := "J") (fin := false) (ty := .long) C (by decide +kernel) (Or.inl ⟨rfl, Or.inl (kw K hw q1722)⟩) (fun _ h => h) (Nat.le_of_ble_eq_true rfl) (Nat.le_of_ble_eq_true rfl) (Nat.le_of_ble_eq_true rfl) rfl rfl (by decide) (fs_rc (⟨rfl, ff_14_41 s0 H0 oa D⟩) (fs_rc (⟨rfl, ff_15_41 s0 H0 oa D⟩) (fs_rc (⟨rfl, ff_16_41 s0 H0 oa D⟩) (fs_one (⟨rfl, ff_17_41 s0 H0 oa D⟩)))))) ?_
  refine fs_c1 (fs_getf (pc := 9) (n := 209797202) (idx := 210) (ref := "BoardMachine$Controls$TrapBank") (O := "BoardMachine$Controls$TrapBank") (name := "scratch") (desc := "LBoardMachine$Controls$Masked;") C (by decide +kernel) (Or.inr ⟨_, kF K hw q1772⟩) (fun _ h => h) (Nat.le_of_ble_eq_true rfl) (Nat.le_of_ble_eq_true rfl) (fs_one (⟨_, ff_20_50 s0 H0 oa D⟩))) ?_
  refine fs_c1 (fs_putf (pc := 13) (n := 172023877) (idx := 163) (ref := "BoardMachine$Controls$Masked") (O := "BoardMachine$Controls$Masked") (name := "held") (desc := "J") (fin := false) (ty := .long) C (by decide +kernel) (Or.inl ⟨rfl, Or.inl (kw K hw q1722)⟩) (fun _ h => h) (Nat.le_of_ble_eq_true rfl) (Nat.le_of_ble_eq_true rfl) (Nat.le_of_ble_eq_true rfl) rfl rfl (by decide) (fs_rc (⟨rfl, ff_14_41 s0 H0 oa D⟩) (fs_rc (⟨rfl, ff_15_41 s0 H0 oa D⟩) (fs_rc (⟨rfl, ff_16_41 s0 H0 oa D⟩) (fs_one (⟨rfl, ff_17_41 s0 H0 oa D⟩)))))) ?_
  refine fs_c1 (fs_getf (pc := 17) (n := 213991506) (idx := 213) (ref := "BoardMachine$Controls$TrapBank") (O := "BoardMachine$Controls$TrapBank") (name := "place") (desc := "LBoardMachine$Controls$Masked;") C (by decide +kernel) (Or.inr ⟨_, kF K hw q1775⟩) (fun _ h => h) (Nat.le_of_ble_eq_true rfl) (Nat.le_of_ble_eq_true rfl) (fs_one (⟨_, ff_20_51 s0 H0 oa D⟩))) ?_
  refine fs_c1 (fs_putf (pc := 21) (n := 172023877) (idx := 163) (ref := "BoardMachine$Controls$Masked") (O := "BoardMachine$Controls$Masked") (name := "held") (desc := "J") (fin := false) (ty := .long) C (by decide +kernel) (Or.inl ⟨rfl, Or.inl (kw K hw q1722)⟩) (fun _ h => h) (Nat.le_of_ble_eq_true rfl) (Nat.le_of_ble_eq_true rfl) (Nat.le_of_ble_eq_true rfl) rfl rfl (by decide) (fs_rc (⟨rfl, ff_14_41 s0 H0 oa D⟩) (fs_rc (⟨rfl, ff_15_41 s0 H0 oa D⟩) (fs_rc (⟨rfl, ff_16_41 s0 H0 oa D⟩) (fs_one (⟨rfl, ff_17_41 s0 H0 oa D⟩)))))) ?_
  refine fs_c1 (fs_getf (pc := 25) (n := 218185810) (idx := 216) (ref := "BoardMachine$Controls$TrapBank") (O := "BoardMachine$Controls$TrapBank") (name := "cause") (desc := "LBoardMachine$Controls$Masked;") C (by decide +kernel) (Or.inr ⟨_, kF K hw q1778⟩) (fun _ h => h) (Nat.le_of_ble_eq_true rfl) (Nat.le_of_ble_eq_true rfl) (fs_one (⟨_, ff_20_52 s0 H0 oa D⟩))) ?_
  refine fs_c1 (fs_putf (pc := 29) (n := 172023877) (idx := 163) (ref := "BoardMachine$Controls$Masked") (O := "BoardMachine$Controls$Masked") (name := "held") (desc := "J") (fin := false) (ty := .long) C (by decide +kernel) (Or.inl ⟨rfl, Or.inl (kw K hw q1722)⟩) (fun _ h => h) (Nat.le_of_ble_eq_true rfl) (Nat.le_of_ble_eq_true rfl) (Nat.le_of_ble_eq_true rfl) rfl rfl (by decide) (fs_rc (⟨rfl, ff_14_41 s0 H0 oa D⟩) (fs_rc (⟨rfl, ff_15_41 s0 H0 oa D⟩) (fs_rc (⟨rfl, ff_16_41 s0 H0 oa D⟩) (fs_one (⟨rfl, ff_17_41 s0 H0 oa D⟩)))))) ?_
  refine fs_c1 (fs_getf (pc := 33) (n := 222380114) (idx := 219) (ref := "BoardMachine$Controls$TrapBank") (O := "BoardMachine$Controls$TrapBank") (name := "value") (desc := "LBoardMachine$Controls$Masked;") C (by decide +kernel) (Or.inr ⟨_, kF K hw q1781⟩) (fun _ h => h) (Nat.le_of_ble_eq_true rfl) (Nat.le_of_ble_eq_true rfl) (fs_one (⟨_, ff_20_53 s0 H0 oa D⟩))) ?_
  refine fs_c1 (fs_putf (pc := 37) (n := 172023877) (idx := 163) (ref := "BoardMachine$Controls$Masked") (O := "BoardMachine$Controls$Masked") (name := "held") (desc := "J") (fin := false) (ty := .long) C (by decide +kernel) (Or.inl ⟨rfl, Or.inl (kw K hw q1722)⟩) (fun _ h => h) (Nat.le_of_ble_eq_true rfl) (Nat.le_of_ble_eq_true rfl) (Nat.le_of_ble_eq_true rfl) rfl rfl (by decide) (fs_rc (⟨rfl, ff_14_41 s0 H0 oa D⟩) (fs_rc (⟨rfl, ff_15_41 s0 H0 oa D⟩) (fs_rc (⟨rfl, ff_16_41 s0 H0 oa D⟩) (fs_one (⟨rfl, ff_17_41 s0 H0 oa D⟩)))))) ?_
  refine fs_c1 (fs_getf (pc := 41) (n := 226574418) (idx := 222) (ref := "BoardMachine$Controls$TrapBank") (O := "BoardMachine$Controls$TrapBank") (name := "counts") (desc := "LBoardMachine$Controls$Masked;") C (by decide +kernel) (Or.inr ⟨_, kF K hw q1784⟩) (fun _ h => h) (Nat.le_of_ble_eq_true rfl) (Nat.le_of_ble_eq_true rfl) (fs_one (⟨_, ff_20_54 s0 H0 oa D⟩))) ?_
  refine fs_c1 (fs_putf (pc := 45) (n := 172023877) (idx := 163) (ref := "BoardMachine$Controls$Masked") (O := "BoardMachine$Controls$Masked") (name := "held") (desc := "J") (fin := false) (ty := .long) C (by decide +kernel) (Or.inl ⟨rfl, Or.inl (kw K hw q1722)⟩) (fun _ h => h) (Nat.le_of_ble_eq_true rfl) (Nat.le_of_ble_eq_true rfl) (Nat.le_of_ble_eq_true rfl) rfl rfl (by decide) (fs_rc (⟨rfl, ff_14_41 s0 H0 oa D⟩) (fs_rc (⟨rfl, ff_15_41 s0 H0 oa D⟩) (fs_rc (⟨rfl, ff_16_41 s0 H0 oa D⟩) (fs_one (⟨rfl, ff_17_41 s0 H0 oa D⟩)))))) ?_
  exact fs_c0
theorem hX46_resetControls : fe_H (sX46_resetControls FX46_table FX46_resetBank) cX46_resetControls [0] fe_kv [] 57 (fun _ => dX46_resetControls FX46_resetControls_0) := by
  intro j pc L st M r hc h
  rcases fe_mem_c hc with rfl | hc
  · obtain ⟨w0, m0, h⟩ := fe_lR_d h
    obtain ⟨rfl, hz⟩ := fe_t0_d h
    exact ⟨[(0, .ref w0)], (fe_cs m0 fe_nl), Or.inr ((bX46_resetControls_0 FX46_table FX46_resetBank FX46_resetControls_0 w0 M).symm.trans hz)⟩
  exact fe_mem_0 hc
theorem vX46_resetControls : fe_SB (sX46_resetControls FX46_table FX46_resetBank) := by
  refine ⟨?_, ?_, ?_, ?_⟩
  · intro i As M r h
    rcases fe_bc h with h | h
    · obtain ⟨v0, t0, rfl, g0⟩ := fe_tR_d h
      obtain ⟨rfl, hz⟩ := fe_t0_d g0
      exact mX46_resetBank v0 M r hz
    exact fe_no h
  · intro i As M r h
    exact fe_no h
  · intro i As M r h
    exact fe_no h
  · intro i As M r h
    rcases fe_bc h with h | h
    · obtain ⟨v0, t0, rfl, g0⟩ := fe_tR_d h
      obtain ⟨rfl, hz⟩ := fe_t0_d g0
      exact mX46_table v0 M r hz
    exact fe_no h
theorem eX46_resetControls (g0 : Nat → FM → Option (FM)) (a0 : Nat) (M : FM) : dX46_resetControls g0 0 [(0, .ref a0)] [] M = g0 a0 M := by rfl
theorem mX46_resetControls (a0 : Nat) (M : FM) (r : FM) (h : FX46_resetControls a0 M = some r) : fm_nx M ≤ fm_nx r ∧ fm_ns M ≤ fm_ns r :=
  fe_mono (L0 := [(0, .ref a0)]) (vX46_resetControls) (by decide +kernel) (hX46_resetControls) (fe_kv_k r) 0 rfl ((eX46_resetControls FX46_resetControls_0 a0 M).trans h)
theorem zX46_resetControls {s0 : State} {H0 : Heap} {oa : Nat → Nat} {D : va_G} (K : fk s0 H0 oa D) (l : Launch) (a0 : Nat) (M : FM) (r : FM) (h : FX46_resetControls a0 M = some r) : fs_Con (fk_E s0 H0 oa D) l 2 ⟨"BoardMachine$Processor", "resetControls", "()V"⟩ prog_86_method_3_code 1 (Option.none : Option Jvm.ClassFile.FieldType) [.ref a0] M none r := by
  have o0 : fs_OS (sX46_resetControls FX46_table FX46_resetBank) 0 3 (fs_Con (fk_E s0 H0 oa D) l 1 ⟨"BoardMachine$Processor", "table", "()LBoardMachine$Controls$Masked;"⟩ prog_86_method_5_code 1 (Option.some (Jvm.ClassFile.FieldType.object "BoardMachine$Controls$Masked"))) := by
    intro As M r h
    obtain ⟨v0, t0, rfl, g0⟩ := fe_tR_d h
    obtain ⟨rfl, hz⟩ := fe_t0_d g0
    exact zX46_table K l v0 M r hz
  have o1 : fs_OS (sX46_resetControls FX46_table FX46_resetBank) 1 0 (fs_Con (fk_E s0 H0 oa D) l 1 ⟨"BoardMachine$Processor", "resetBank", "(LBoardMachine$Controls$TrapBank;)V"⟩ prog_86_method_4_code 1 (Option.none : Option Jvm.ClassFile.FieldType)) := by
    intro As M r h
    obtain ⟨v0, t0, rfl, g0⟩ := fe_tR_d h
    obtain ⟨rfl, hz⟩ := fe_t0_d g0
    exact zX46_resetBank K l v0 M r hz
  refine fs_method (own := "BoardMachine$Processor") rfl (by decide) K.2.1 (by rw [fe_slen]; exact (Nat.le_of_ble_eq_true rfl)) (mX46_resetControls a0 M r h) (hX46_resetControls) 0 rfl (L0 := [(0, .ref a0)]) (fun E => fe_args_e E [.ref a0] 0) ((eX46_resetControls FX46_resetControls_0 a0 M).trans h) (fe_kv_k r) (fun H hR => fs_nr_o (by decide) (by decide)) ?_
  intro p e s m args below meth c Q C hnm
  have hw : s0.WarmedH s.vm := C.2.2.2.2.1
  refine fe_all C fk_hwr cX46_resetControls [1, 4, 8, 12, 15, 19, 23, 26, 30, 34, 37, 41, 45, 48, 52, 56, 59, 63, 67, 70, 74, 78, 82, 86, 89, 92, 96, 99, 102, 106, 110] (by decide +kernel) (fe_fil (cps := [(1, 4, .getfield 893694254), (4, 7, .getfield 113295410), (8, 11, .putfield 172032065), (12, 15, .getfield 893694254), (15, 18, .getfield 117489714), (19, 22, .putfield 172023877), (23, 26, .getfield 893694254), (26, 29, .getfield 121684018), (30, 33, .putfield 172023877), (34, 37, .getfield 893694254), (37, 40, .getfield 125878322), (41, 44, .putfield 172023877), (45, 48, .getfield 893694254), (48, 51, .getfield 130072626), (52, 55, .putfield 172027965), (56, 59, .getfield 893694254), (59, 62, .getfield 142655538), (63, 66, .putfield 172023877), (67, 70, .getfield 893694254), (70, 73, .getfield 146849842), (74, 77, .putfield 172023877), (78, 81, .invokevirtual 7416907), (82, 85, .putfield 172023877), (86, 89, .getfield 893694254), (89, 92, .getfield 134266930), (92, 95, .invokestatic 68), (96, 99, .getfield 893694254), (99, 102, .getfield 138461234), (102, 105, .invokestatic 68), (106, 109, .getfield 893694254), (110, 113, .putfield 155238448)]) (by decide +kernel) ?_)
  refine fs_c1 (fs_getf (pc := 1) (n := 893694254) (idx := 55) (ref := "BoardMachine$Processor") (O := "BoardMachine$Processor") (name := "controls") (desc := "LBoardMachine$Controls$ControlUnit;") C (by decide +kernel) (Or.inl (kw K hw q2082)) (fun _ h => h) (Nat.le_of_ble_eq_true rfl) (Nat.le_of_ble_eq_true rfl) (fs_one (⟨_, ff_75_213 s0 H0 oa D⟩))) ?_
  refine fs_c1 (fs_getf (pc := 4) (n := 113295410) (idx := 151) (ref := "BoardMachine$Controls$ControlUnit") (O := "BoardMachine$Controls$ControlUnit") (name := "status") (desc := "LBoardMachine$Controls$Status;") C (by decide +kernel) (Or.inr ⟨_, kF K hw q1857⟩) (fun _ h => h) (Nat.le_of_ble_eq_true rfl) (Nat.le_of_ble_eq_true rfl) (fs_one (⟨_, ff_12_27 s0 H0 oa D⟩))) ?_
  refine fs_c1 (fs_putf (pc := 8) (n := 172032065) (idx := 155) (ref := "BoardMachine$Controls$Status") (O := "BoardMachine$Controls$Masked") (name := "held") (desc := "J") (fin := false) (ty := .long) C (by decide +kernel) (Or.inl ⟨rfl, Or.inl (kw K hw q1721)⟩) (fs_sameF (kw (args := args) K hw q1720)) (Nat.le_of_ble_eq_true rfl) (Nat.le_of_ble_eq_true rfl) (Nat.le_of_ble_eq_true rfl) rfl rfl (by decide) (fs_one (⟨rfl, ff_16_41 s0 H0 oa D⟩))) ?_
  refine fs_c1 (fs_getf (pc := 12) (n := 893694254) (idx := 55) (ref := "BoardMachine$Processor") (O := "BoardMachine$Processor") (name := "controls") (desc := "LBoardMachine$Controls$ControlUnit;") C (by decide +kernel) (Or.inl (kw K hw q2082)) (fun _ h => h) (Nat.le_of_ble_eq_true rfl) (Nat.le_of_ble_eq_true rfl) (fs_one (⟨_, ff_75_213 s0 H0 oa D⟩))) ?_
  refine fs_c1 (fs_getf (pc := 15) (n := 117489714) (idx := 159) (ref := "BoardMachine$Controls$ControlUnit") (O := "BoardMachine$Controls$ControlUnit") (name := "exceptions") (desc := "LBoardMachine$Controls$Masked;") C (by decide +kernel) (Or.inr ⟨_, kF K hw q1859⟩) (fun _ h => h) (Nat.le_of_ble_eq_true rfl) (Nat.le_of_ble_eq_true rfl) (fs_one (⟨_, ff_12_28 s0 H0 oa D⟩))) ?_
  refine fs_c1 (fs_putf (pc := 19) (n := 172023877) (idx := 163) (ref := "BoardMachine$Controls$Masked") (O := "BoardMachine$Controls$Masked") (name := "held") (desc := "J") (fin := false) (ty := .long) C (by decide +kernel) (Or.inl ⟨rfl, Or.inl (kw K hw q1722)⟩) (fun _ h => h) (Nat.le_of_ble_eq_true rfl) (Nat.le_of_ble_eq_true rfl) (Nat.le_of_ble_eq_true rfl) rfl rfl (by decide) (fs_rc (⟨rfl, ff_14_41 s0 H0 oa D⟩) (fs_rc (⟨rfl, ff_15_41 s0 H0 oa D⟩) (fs_rc (⟨rfl, ff_16_41 s0 H0 oa D⟩) (fs_one (⟨rfl, ff_17_41 s0 H0 oa D⟩)))))) ?_
  refine fs_c1 (fs_getf (pc := 23) (n := 893694254) (idx := 55) (ref := "BoardMachine$Processor") (O := "BoardMachine$Processor") (name := "controls") (desc := "LBoardMachine$Controls$ControlUnit;") C (by decide +kernel) (Or.inl (kw K hw q2082)) (fun _ h => h) (Nat.le_of_ble_eq_true rfl) (Nat.le_of_ble_eq_true rfl) (fs_one (⟨_, ff_75_213 s0 H0 oa D⟩))) ?_
  refine fs_c1 (fs_getf (pc := 26) (n := 121684018) (idx := 166) (ref := "BoardMachine$Controls$ControlUnit") (O := "BoardMachine$Controls$ControlUnit") (name := "interrupts") (desc := "LBoardMachine$Controls$Masked;") C (by decide +kernel) (Or.inr ⟨_, kF K hw q1861⟩) (fun _ h => h) (Nat.le_of_ble_eq_true rfl) (Nat.le_of_ble_eq_true rfl) (fs_one (⟨_, ff_12_29 s0 H0 oa D⟩))) ?_
  refine fs_c1 (fs_putf (pc := 30) (n := 172023877) (idx := 163) (ref := "BoardMachine$Controls$Masked") (O := "BoardMachine$Controls$Masked") (name := "held") (desc := "J") (fin := false) (ty := .long) C (by decide +kernel) (Or.inl ⟨rfl, Or.inl (kw K hw q1722)⟩) (fun _ h => h) (Nat.le_of_ble_eq_true rfl) (Nat.le_of_ble_eq_true rfl) (Nat.le_of_ble_eq_true rfl) rfl rfl (by decide) (fs_rc (⟨rfl, ff_14_41 s0 H0 oa D⟩) (fs_rc (⟨rfl, ff_15_41 s0 H0 oa D⟩) (fs_rc (⟨rfl, ff_16_41 s0 H0 oa D⟩) (fs_one (⟨rfl, ff_17_41 s0 H0 oa D⟩)))))) ?_
  refine fs_c1 (fs_getf (pc := 34) (n := 893694254) (idx := 55) (ref := "BoardMachine$Processor") (O := "BoardMachine$Processor") (name := "controls") (desc := "LBoardMachine$Controls$ControlUnit;") C (by decide +kernel) (Or.inl (kw K hw q2082)) (fun _ h => h) (Nat.le_of_ble_eq_true rfl) (Nat.le_of_ble_eq_true rfl) (fs_one (⟨_, ff_75_213 s0 H0 oa D⟩))) ?_
  refine fs_c1 (fs_getf (pc := 37) (n := 125878322) (idx := 169) (ref := "BoardMachine$Controls$ControlUnit") (O := "BoardMachine$Controls$ControlUnit") (name := "enabled") (desc := "LBoardMachine$Controls$Masked;") C (by decide +kernel) (Or.inr ⟨_, kF K hw q1863⟩) (fun _ h => h) (Nat.le_of_ble_eq_true rfl) (Nat.le_of_ble_eq_true rfl) (fs_one (⟨_, ff_12_30 s0 H0 oa D⟩))) ?_
  refine fs_c1 (fs_putf (pc := 41) (n := 172023877) (idx := 163) (ref := "BoardMachine$Controls$Masked") (O := "BoardMachine$Controls$Masked") (name := "held") (desc := "J") (fin := false) (ty := .long) C (by decide +kernel) (Or.inl ⟨rfl, Or.inl (kw K hw q1722)⟩) (fun _ h => h) (Nat.le_of_ble_eq_true rfl) (Nat.le_of_ble_eq_true rfl) (Nat.le_of_ble_eq_true rfl) rfl rfl (by decide) (fs_rc (⟨rfl, ff_14_41 s0 H0 oa D⟩) (fs_rc (⟨rfl, ff_15_41 s0 H0 oa D⟩) (fs_rc (⟨rfl, ff_16_41 s0 H0 oa D⟩) (fs_one (⟨rfl, ff_17_41 s0 H0 oa D⟩)))))) ?_
  refine fs_c1 (fs_getf (pc := 45) (n := 893694254) (idx := 55) (ref := "BoardMachine$Processor") (O := "BoardMachine$Processor") (name := "controls") (desc := "LBoardMachine$Controls$ControlUnit;") C (by decide +kernel) (Or.inl (kw K hw q2082)) (fun _ h => h) (Nat.le_of_ble_eq_true rfl) (Nat.le_of_ble_eq_true rfl) (fs_one (⟨_, ff_75_213 s0 H0 oa D⟩))) ?_
  refine fs_c1 (fs_getf (pc := 48) (n := 130072626) (idx := 172) (ref := "BoardMachine$Controls$ControlUnit") (O := "BoardMachine$Controls$ControlUnit") (name := "pending") (desc := "LBoardMachine$Controls$Pending;") C (by decide +kernel) (Or.inr ⟨_, kF K hw q1865⟩) (fun _ h => h) (Nat.le_of_ble_eq_true rfl) (Nat.le_of_ble_eq_true rfl) (fs_one (⟨_, ff_12_31 s0 H0 oa D⟩))) ?_
  refine fs_c1 (fs_putf (pc := 52) (n := 172027965) (idx := 176) (ref := "BoardMachine$Controls$Pending") (O := "BoardMachine$Controls$Masked") (name := "held") (desc := "J") (fin := false) (ty := .long) C (by decide +kernel) (Or.inl ⟨rfl, Or.inl (kw K hw q1724)⟩) (fs_sameF (kw (args := args) K hw q1717)) (Nat.le_of_ble_eq_true rfl) (Nat.le_of_ble_eq_true rfl) (Nat.le_of_ble_eq_true rfl) rfl rfl (by decide) (fs_one (⟨rfl, ff_15_41 s0 H0 oa D⟩))) ?_
  refine fs_c1 (fs_getf (pc := 56) (n := 893694254) (idx := 55) (ref := "BoardMachine$Processor") (O := "BoardMachine$Processor") (name := "controls") (desc := "LBoardMachine$Controls$ControlUnit;") C (by decide +kernel) (Or.inl (kw K hw q2082)) (fun _ h => h) (Nat.le_of_ble_eq_true rfl) (Nat.le_of_ble_eq_true rfl) (fs_one (⟨_, ff_75_213 s0 H0 oa D⟩))) ?_
  refine fs_c1 (fs_getf (pc := 59) (n := 142655538) (idx := 179) (ref := "BoardMachine$Controls$ControlUnit") (O := "BoardMachine$Controls$ControlUnit") (name := "cycles") (desc := "LBoardMachine$Controls$Masked;") C (by decide +kernel) (Or.inr ⟨_, kF K hw q1871⟩) (fun _ h => h) (Nat.le_of_ble_eq_true rfl) (Nat.le_of_ble_eq_true rfl) (fs_one (⟨_, ff_12_34 s0 H0 oa D⟩))) ?_
  refine fs_c1 (fs_putf (pc := 63) (n := 172023877) (idx := 163) (ref := "BoardMachine$Controls$Masked") (O := "BoardMachine$Controls$Masked") (name := "held") (desc := "J") (fin := false) (ty := .long) C (by decide +kernel) (Or.inl ⟨rfl, Or.inl (kw K hw q1722)⟩) (fun _ h => h) (Nat.le_of_ble_eq_true rfl) (Nat.le_of_ble_eq_true rfl) (Nat.le_of_ble_eq_true rfl) rfl rfl (by decide) (fs_rc (⟨rfl, ff_14_41 s0 H0 oa D⟩) (fs_rc (⟨rfl, ff_15_41 s0 H0 oa D⟩) (fs_rc (⟨rfl, ff_16_41 s0 H0 oa D⟩) (fs_one (⟨rfl, ff_17_41 s0 H0 oa D⟩)))))) ?_
  refine fs_c1 (fs_getf (pc := 67) (n := 893694254) (idx := 55) (ref := "BoardMachine$Processor") (O := "BoardMachine$Processor") (name := "controls") (desc := "LBoardMachine$Controls$ControlUnit;") C (by decide +kernel) (Or.inl (kw K hw q2082)) (fun _ h => h) (Nat.le_of_ble_eq_true rfl) (Nat.le_of_ble_eq_true rfl) (fs_one (⟨_, ff_75_213 s0 H0 oa D⟩))) ?_
  refine fs_c1 (fs_getf (pc := 70) (n := 146849842) (idx := 182) (ref := "BoardMachine$Controls$ControlUnit") (O := "BoardMachine$Controls$ControlUnit") (name := "instructions") (desc := "LBoardMachine$Controls$Masked;") C (by decide +kernel) (Or.inr ⟨_, kF K hw q1874⟩) (fun _ h => h) (Nat.le_of_ble_eq_true rfl) (Nat.le_of_ble_eq_true rfl) (fs_one (⟨_, ff_12_35 s0 H0 oa D⟩))) ?_
  refine fs_c1 (fs_putf (pc := 74) (n := 172023877) (idx := 163) (ref := "BoardMachine$Controls$Masked") (O := "BoardMachine$Controls$Masked") (name := "held") (desc := "J") (fin := false) (ty := .long) C (by decide +kernel) (Or.inl ⟨rfl, Or.inl (kw K hw q1722)⟩) (fun _ h => h) (Nat.le_of_ble_eq_true rfl) (Nat.le_of_ble_eq_true rfl) (Nat.le_of_ble_eq_true rfl) rfl rfl (by decide) (fs_rc (⟨rfl, ff_14_41 s0 H0 oa D⟩) (fs_rc (⟨rfl, ff_15_41 s0 H0 oa D⟩) (fs_rc (⟨rfl, ff_16_41 s0 H0 oa D⟩) (fs_one (⟨rfl, ff_17_41 s0 H0 oa D⟩)))))) ?_
  refine fs_c1 (fs_inv_virtual (pc := 78) (n := 7416907) C (Nat.le_of_ble_eq_true rfl) (Nat.le_of_ble_eq_true rfl) (fs_lk_virtual (idx := 185) (y := ⟨"BoardMachine$Processor", "table", "()LBoardMachine$Controls$Masked;"⟩) (bytes := prog_86_method_5_code) (maxL := 1) (rt := (Option.some (Jvm.ClassFile.FieldType.object "BoardMachine$Controls$Masked"))) (d := 1) C (Nat.le_of_ble_eq_true rfl) (Nat.le_of_ble_eq_true rfl) (by decide +kernel) (kw K hw q2459) (kw K hw q357) (kw K hw q2458) (Or.inl (kw K hw q2456)) ⟨by decide, by decide⟩ rfl (Nat.le_of_ble_eq_true rfl) (Nat.le_of_ble_eq_true rfl) (fs_one (⟨_, rfl, kw K hw qs25⟩))) fs_con_mono o0) ?_
  refine fs_c1 (fs_putf (pc := 82) (n := 172023877) (idx := 163) (ref := "BoardMachine$Controls$Masked") (O := "BoardMachine$Controls$Masked") (name := "held") (desc := "J") (fin := false) (ty := .long) C (by decide +kernel) (Or.inl ⟨rfl, Or.inl (kw K hw q1722)⟩) (fun _ h => h) (Nat.le_of_ble_eq_true rfl) (Nat.le_of_ble_eq_true rfl) (Nat.le_of_ble_eq_true rfl) rfl rfl (by decide) (fs_rc (⟨rfl, ff_14_41 s0 H0 oa D⟩) (fs_rc (⟨rfl, ff_15_41 s0 H0 oa D⟩) (fs_rc (⟨rfl, ff_16_41 s0 H0 oa D⟩) (fs_one (⟨rfl, ff_17_41 s0 H0 oa D⟩)))))) ?_
  refine fs_c1 (fs_getf (pc := 86) (n := 893694254) (idx := 55) (ref := "BoardMachine$Processor") (O := "BoardMachine$Processor") (name := "controls") (desc := "LBoardMachine$Controls$ControlUnit;") C (by decide +kernel) (Or.inl (kw K hw q2082)) (fun _ h => h) (Nat.le_of_ble_eq_true rfl) (Nat.le_of_ble_eq_true rfl) (fs_one (⟨_, ff_75_213 s0 H0 oa D⟩))) ?_
  refine fs_c1 (fs_getf (pc := 89) (n := 134266930) (idx := 189) (ref := "BoardMachine$Controls$ControlUnit") (O := "BoardMachine$Controls$ControlUnit") (name := "machine") (desc := "LBoardMachine$Controls$TrapBank;") C (by decide +kernel) (Or.inr ⟨_, kF K hw q1867⟩) (fun _ h => h) (Nat.le_of_ble_eq_true rfl) (Nat.le_of_ble_eq_true rfl) (fs_one (⟨_, ff_12_32 s0 H0 oa D⟩))) ?_
  refine fs_c1 (fs_inv_static (pc := 92) (n := 68) C (fs_lk_static (idx := 193) (y := ⟨"BoardMachine$Processor", "resetBank", "(LBoardMachine$Controls$TrapBank;)V"⟩) (bytes := prog_86_method_4_code) (maxL := 1) (rt := (Option.none : Option Jvm.ClassFile.FieldType)) (d := 1) C (by decide +kernel) (kw K hw q2463) (kw K hw q357) (kw K hw q2462) (Or.inl (kw K hw q2461)) ⟨by decide, by decide⟩ rfl (Nat.le_of_ble_eq_true rfl) (Nat.le_of_ble_eq_true rfl)) fs_con_mono o1) ?_
  refine fs_c1 (fs_getf (pc := 96) (n := 893694254) (idx := 55) (ref := "BoardMachine$Processor") (O := "BoardMachine$Processor") (name := "controls") (desc := "LBoardMachine$Controls$ControlUnit;") C (by decide +kernel) (Or.inl (kw K hw q2082)) (fun _ h => h) (Nat.le_of_ble_eq_true rfl) (Nat.le_of_ble_eq_true rfl) (fs_one (⟨_, ff_75_213 s0 H0 oa D⟩))) ?_
  refine fs_c1 (fs_getf (pc := 99) (n := 138461234) (idx := 197) (ref := "BoardMachine$Controls$ControlUnit") (O := "BoardMachine$Controls$ControlUnit") (name := "supervisor") (desc := "LBoardMachine$Controls$TrapBank;") C (by decide +kernel) (Or.inr ⟨_, kF K hw q1869⟩) (fun _ h => h) (Nat.le_of_ble_eq_true rfl) (Nat.le_of_ble_eq_true rfl) (fs_one (⟨_, ff_12_33 s0 H0 oa D⟩))) ?_
  refine fs_c1 (fs_inv_static (pc := 102) (n := 68) C (fs_lk_static (idx := 193) (y := ⟨"BoardMachine$Processor", "resetBank", "(LBoardMachine$Controls$TrapBank;)V"⟩) (bytes := prog_86_method_4_code) (maxL := 1) (rt := (Option.none : Option Jvm.ClassFile.FieldType)) (d := 1) C (by decide +kernel) (kw K hw q2463) (kw K hw q357) (kw K hw q2462) (Or.inl (kw K hw q2461)) ⟨by decide, by decide⟩ rfl (Nat.le_of_ble_eq_true rfl) (Nat.le_of_ble_eq_true rfl)) fs_con_mono o1) ?_
  refine fs_c1 (fs_getf (pc := 106) (n := 893694254) (idx := 55) (ref := "BoardMachine$Processor") (O := "BoardMachine$Processor") (name := "controls") (desc := "LBoardMachine$Controls$ControlUnit;") C (by decide +kernel) (Or.inl (kw K hw q2082)) (fun _ h => h) (Nat.le_of_ble_eq_true rfl) (Nat.le_of_ble_eq_true rfl) (fs_one (⟨_, ff_75_213 s0 H0 oa D⟩))) ?_
  refine fs_c1 (fs_putf (pc := 110) (n := 155238448) (idx := 202) (ref := "BoardMachine$Controls$ControlUnit") (O := "BoardMachine$Controls$ControlUnit") (name := "mode") (desc := "I") (fin := false) (ty := .int) C (by decide +kernel) (Or.inl ⟨rfl, Or.inr ⟨_, kF K hw q1878⟩⟩) (fun _ h => h) (Nat.le_of_ble_eq_true rfl) (Nat.le_of_ble_eq_true rfl) (Nat.le_of_ble_eq_true rfl) rfl rfl (by decide) (fs_one (⟨rfl, ff_12_37 s0 H0 oa D⟩))) ?_
  exact fs_c0
theorem hX87_span : fe_H (sX87_span) cX87_span [0, 44] fe_ka [] 28 (fun _ => dX87_span FX87_span_0 FX87_span_44) := by
  intro j pc L st M r hc h
  rcases fe_mem_c hc with rfl | hc
  · obtain ⟨w0, m0, h⟩ := fe_lR_d h
    obtain ⟨rfl, hz⟩ := fe_t0_d h
    exact ⟨[(0, .ref w0)], (fe_cs m0 fe_nl), Or.inr ((bX87_span_0 FX87_span_0 FX87_span_44 w0 M).symm.trans hz)⟩
  rcases fe_mem_c hc with rfl | hc
  · obtain ⟨s0, t0, rfl, g0⟩ := fe_tR_d h
    obtain ⟨rfl, hz⟩ := fe_t0_d g0
    exact ⟨[], fe_nl, Or.inr ((bX87_span_44 FX87_span_0 FX87_span_44 s0 M).symm.trans hz)⟩
  exact fe_mem_0 hc
theorem vX87_span : fe_SB (sX87_span) := by
  refine ⟨?_, ?_, ?_, ?_⟩
  · intro i As M r h
    exact fe_no h
  · intro i As M r h
    exact fe_no h
  · intro i As M r h
    exact fe_no h
  · intro i As M r h
    exact fe_no h
theorem eX87_span (g0 : Nat → FM → Option (Nat × FM)) (g44 : Nat → FM → Option (Nat × FM)) (a0 : Nat) (M : FM) : dX87_span g0 g44 0 [(0, .ref a0)] [] M = g0 a0 M := by rfl
theorem mX87_span (a0 : Nat) (M : FM) (r : Nat × FM) (h : FX87_span a0 M = some r) : fm_nx M ≤ fm_nx r.2 ∧ fm_ns M ≤ fm_ns r.2 :=
  fe_mono (L0 := [(0, .ref a0)]) (vX87_span) (by decide +kernel) (hX87_span) (fe_ka_k r) 0 rfl ((eX87_span FX87_span_0 FX87_span_44 a0 M).trans h)
theorem zX87_span {s0 : State} {H0 : Heap} {oa : Nat → Nat} {D : va_G} (K : fk s0 H0 oa D) (l : Launch) (a0 : Nat) (M : FM) (r : Nat × FM) (h : FX87_span a0 M = some r) : fs_Con (fk_E s0 H0 oa D) l 1 ⟨"BoardMachine$Walks$Region", "span", "()LBoardMachine$Walks$Span;"⟩ prog_104_method_3_code 2 (Option.some (Jvm.ClassFile.FieldType.object "BoardMachine$Walks$Span")) [.ref a0] M (some (.ref r.1)) r.2 := by
  refine fs_method (own := "BoardMachine$Walks$Region") rfl (by decide) K.2.1 (by rw [fe_slen]; exact (Nat.le_of_ble_eq_true rfl)) (mX87_span a0 M r h) (hX87_span) 0 rfl (L0 := [(0, .ref a0)]) (fun E => fe_args_e E [.ref a0] 0) ((eX87_span FX87_span_0 FX87_span_44 a0 M).trans h) (fe_ka_k r) (fun H hR => fs_nr_o (by decide) (by decide)) ?_
  intro p e s m args below meth c Q C hnm
  have hw : s0.WarmedH s.vm := C.2.2.2.2.1
  refine fe_all C fk_hwr cX87_span [1, 13, 24, 35, 41] (by decide +kernel) (fe_fil (cps := [(1, 4, .getfield 1174770020), (13, 16, .getstatic 33), (24, 27, .getstatic 34), (35, 38, .getstatic 35), (41, 44, .getstatic 36)]) (by decide +kernel) ?_)
  refine fs_c1 (fs_getf (pc := 1) (n := 1174770020) (idx := 9) (ref := "BoardMachine$Walks$Region") (O := "BoardMachine$Walks$Region") (name := "config") (desc := "I") C (by decide +kernel) (Or.inl (kw K hw q1948)) (fun _ h => h) (Nat.le_of_ble_eq_true rfl) (Nat.le_of_ble_eq_true rfl) (fs_one (⟨_, ff_89_280 s0 H0 oa D⟩))) ?_
  refine fs_c1 (fs_getst (pc := 13) (idx := 15) (k := 33) (CC := "BoardMachine$Walks$Span") (n := "NOTHING") (d := "LBoardMachine$Walks$Span;") (ref := "BoardMachine$Walks$Span") C (by decide +kernel) (kw K hw q2476) (fun _ h => h) (by decide) (kZ K 33 ez_33)) ?_
  refine fs_c1 (fs_getst (pc := 24) (idx := 21) (k := 34) (CC := "BoardMachine$Walks$Span") (n := "FROM_BEFORE") (d := "LBoardMachine$Walks$Span;") (ref := "BoardMachine$Walks$Span") C (by decide +kernel) (kw K hw q2478) (fun _ h => h) (by decide) (kZ K 34 ez_34)) ?_
  refine fs_c1 (fs_getst (pc := 35) (idx := 24) (k := 35) (CC := "BoardMachine$Walks$Span") (n := "FOUR") (d := "LBoardMachine$Walks$Span;") (ref := "BoardMachine$Walks$Span") C (by decide +kernel) (kw K hw q2480) (fun _ h => h) (by decide) (kZ K 35 ez_35)) ?_
  refine fs_c1 (fs_getst (pc := 41) (idx := 27) (k := 36) (CC := "BoardMachine$Walks$Span") (n := "POWER") (d := "LBoardMachine$Walks$Span;") (ref := "BoardMachine$Walks$Span") C (by decide +kernel) (kw K hw q2482) (fun _ h => h) (by decide) (kZ K 36 ez_36)) ?_
  exact fs_c0
theorem hJ0_ordinal : fe_H (sJ0_ordinal) cJ0_ordinal [0] fe_ki [] 20 (fun _ => dJ0_ordinal FJ0_ordinal_0) := by
  intro j pc L st M r hc h
  rcases fe_mem_c hc with rfl | hc
  · obtain ⟨w0, m0, h⟩ := fe_lR_d h
    obtain ⟨rfl, hz⟩ := fe_t0_d h
    exact ⟨[(0, .ref w0)], (fe_cs m0 fe_nl), Or.inr ((bJ0_ordinal_0 FJ0_ordinal_0 w0 M).symm.trans hz)⟩
  exact fe_mem_0 hc
theorem vJ0_ordinal : fe_SB (sJ0_ordinal) := by
  refine ⟨?_, ?_, ?_, ?_⟩
  · intro i As M r h
    exact fe_no h
  · intro i As M r h
    exact fe_no h
  · intro i As M r h
    exact fe_no h
  · intro i As M r h
    exact fe_no h
theorem eJ0_ordinal (g0 : Nat → FM → Option (Int32 × FM)) (a0 : Nat) (M : FM) : dJ0_ordinal g0 0 [(0, .ref a0)] [] M = g0 a0 M := by rfl
theorem mJ0_ordinal (a0 : Nat) (M : FM) (r : Int32 × FM) (h : FJ0_ordinal a0 M = some r) : fm_nx M ≤ fm_nx r.2 ∧ fm_ns M ≤ fm_ns r.2 :=
  fe_mono (L0 := [(0, .ref a0)]) (vJ0_ordinal) (by decide +kernel) (hJ0_ordinal) (fe_ki_k r) 0 rfl ((eJ0_ordinal FJ0_ordinal_0 a0 M).trans h)
theorem zJ0_ordinal {s0 : State} {H0 : Heap} {oa : Nat → Nat} {D : va_G} (K : fk s0 H0 oa D) (l : Launch) (a0 : Nat) (M : FM) (r : Int32 × FM) (h : FJ0_ordinal a0 M = some r) : fs_Con (fk_E s0 H0 oa D) l 1 ⟨"java/lang/Enum", "ordinal", "()I"⟩ prog_123_method_2_code 1 (Option.some Jvm.ClassFile.FieldType.int) [.ref a0] M (some (.int r.1)) r.2 := by
  refine fs_method (own := "java/lang/Enum") rfl (by decide) K.2.1 (by rw [fe_slen]; exact (Nat.le_of_ble_eq_true rfl)) (mJ0_ordinal a0 M r h) (hJ0_ordinal) 0 rfl (L0 := [(0, .ref a0)]) (fun E => fe_args_e E [.ref a0] 0) ((eJ0_ordinal FJ0_ordinal_0 a0 M).trans h) (fe_ki_k r) (fun H hR => fs_nr_o (by decide) (by decide)) ?_
  intro p e s m args below meth c Q C hnm
  have hw : s0.WarmedH s.vm := C.2.2.2.2.1
  refine fe_all C fk_hwr cJ0_ordinal [1] (by decide +kernel) (fe_fil (cps := [(1, 4, .getfield 41947160)]) (by decide +kernel) ?_)
  refine fs_c1 (fs_getf (pc := 1) (n := 41947160) (idx := 7) (ref := "java/lang/Enum") (O := "java/lang/Enum") (name := "ordinal") (desc := "I") C (by decide +kernel) (Or.inl (kw K hw q6557)) (fun _ h => h) (Nat.le_of_ble_eq_true rfl) (Nat.le_of_ble_eq_true rfl) (fs_rc (⟨_, ff_1_10 s0 H0 oa D⟩) (fs_rc (⟨_, ff_2_10 s0 H0 oa D⟩) (fs_rc (⟨_, ff_3_10 s0 H0 oa D⟩) (fs_rc (⟨_, ff_4_10 s0 H0 oa D⟩) (fs_rc (⟨_, ff_5_10 s0 H0 oa D⟩) (fs_one (⟨_, ff_6_10 s0 H0 oa D⟩)))))))) ?_
  exact fs_c0
theorem hX87_lay : fe_H (sX87_lay FX87_span FJ0_ordinal) cX87_lay [0, 142] fe_kv [] 70 (fun _ => dX87_lay FX87_lay_0 FX87_lay_142) := by
  intro j pc L st M r hc h
  rcases fe_mem_c hc with rfl | hc
  · obtain ⟨w0, m0, h⟩ := fe_lR_d h
    obtain ⟨w1, m1, h⟩ := fe_lL_d h
    obtain ⟨rfl, hz⟩ := fe_t0_d h
    exact ⟨[(0, .ref w0), (1, .long w1)], (fe_cs m0 (fe_cs m1 fe_nl)), Or.inr ((bX87_lay_0 FX87_span FJ0_ordinal FX87_lay_0 FX87_lay_142 w0 w1 M).symm.trans hz)⟩
  rcases fe_mem_c hc with rfl | hc
  · obtain ⟨rfl, hz⟩ := fe_t0_d h
    exact ⟨[], fe_nl, Or.inr ((bX87_lay_142 FX87_span FJ0_ordinal FX87_lay_0 FX87_lay_142 M).symm.trans hz)⟩
  exact fe_mem_0 hc
theorem vX87_lay : fe_SB (sX87_lay FX87_span FJ0_ordinal) := by
  refine ⟨?_, ?_, ?_, ?_⟩
  · intro i As M r h
    exact fe_no h
  · intro i As M r h
    rcases fe_bc h with h | h
    · obtain ⟨v0, t0, rfl, g0⟩ := fe_tR_d h
      obtain ⟨rfl, hz⟩ := fe_t0_d g0
      exact mJ0_ordinal v0 M r hz
    exact fe_no h
  · intro i As M r h
    exact fe_no h
  · intro i As M r h
    rcases fe_bc h with h | h
    · obtain ⟨v0, t0, rfl, g0⟩ := fe_tR_d h
      obtain ⟨rfl, hz⟩ := fe_t0_d g0
      exact mX87_span v0 M r hz
    exact fe_no h
theorem eX87_lay (g0 : Nat → Int64 → FM → Option (FM)) (g142 : FM → Option (FM)) (a0 : Nat) (a1 : Int64) (M : FM) : dX87_lay g0 g142 0 [(0, .ref a0), (1, .long a1)] [] M = g0 a0 a1 M := by rfl
theorem mX87_lay (a0 : Nat) (a1 : Int64) (M : FM) (r : FM) (h : FX87_lay a0 a1 M = some r) : fm_nx M ≤ fm_nx r ∧ fm_ns M ≤ fm_ns r :=
  fe_mono (L0 := [(0, .ref a0), (1, .long a1)]) (vX87_lay) (by decide +kernel) (hX87_lay) (fe_kv_k r) 0 rfl ((eX87_lay FX87_lay_0 FX87_lay_142 a0 a1 M).trans h)
theorem zX87_lay {s0 : State} {H0 : Heap} {oa : Nat → Nat} {D : va_G} (K : fk s0 H0 oa D) (l : Launch) (a0 : Nat) (a1 : Int64) (M : FM) (r : FM) (h : FX87_lay a0 a1 M = some r) : fs_Con (fk_E s0 H0 oa D) l 2 ⟨"BoardMachine$Walks$Region", "lay", "(J)V"⟩ prog_104_method_5_code 5 (Option.none : Option Jvm.ClassFile.FieldType) [.ref a0, .long a1] M none r := by
  have o0 : fs_OS (sX87_lay FX87_span FJ0_ordinal) 0 3 (fs_Con (fk_E s0 H0 oa D) l 1 ⟨"BoardMachine$Walks$Region", "span", "()LBoardMachine$Walks$Span;"⟩ prog_104_method_3_code 2 (Option.some (Jvm.ClassFile.FieldType.object "BoardMachine$Walks$Span"))) := by
    intro As M r h
    obtain ⟨v0, t0, rfl, g0⟩ := fe_tR_d h
    obtain ⟨rfl, hz⟩ := fe_t0_d g0
    exact zX87_span K l v0 M r hz
  have o1 : fs_OS (sX87_lay FX87_span FJ0_ordinal) 1 1 (fs_Con (fk_E s0 H0 oa D) l 1 ⟨"java/lang/Enum", "ordinal", "()I"⟩ prog_123_method_2_code 1 (Option.some Jvm.ClassFile.FieldType.int)) := by
    intro As M r h
    obtain ⟨v0, t0, rfl, g0⟩ := fe_tR_d h
    obtain ⟨rfl, hz⟩ := fe_t0_d g0
    exact zJ0_ordinal K l v0 M r hz
  refine fs_method (own := "BoardMachine$Walks$Region") rfl (by decide) K.2.1 (by rw [fe_slen]; exact (Nat.le_of_ble_eq_true rfl)) (mX87_lay a0 a1 M r h) (hX87_lay) 0 rfl (L0 := [(0, .ref a0), (1, .long a1)]) (fun E => fe_args_e E [.ref a0, .long a1] 0) ((eX87_lay FX87_lay_0 FX87_lay_142 a0 a1 M).trans h) (fe_kv_k r) (fun H hR => fs_nr_o (by decide) (by decide)) ?_
  intro p e s m args below meth c Q C hnm
  have hw : s0.WarmedH s.vm := C.2.2.2.2.1
  refine fe_all C fk_hwr cX87_lay [1, 4, 7, 33, 38, 42, 46, 50, 57, 61, 65, 70, 73, 77, 84, 88, 93, 100, 104, 110, 115, 118, 126, 134, 139] (by decide +kernel) (fe_fil (cps := [(1, 4, .invokevirtual 7431257), (4, 7, .invokevirtual 72356869), (7, 32, .lookupswitch (125) #[(1, 25), (2, 49), (3, 76)]), (33, 36, .jsr_w (4)), (38, 41, .putfield 1183158629), (42, 45, .jsr_w (4)), (46, 49, .getfield 1178964325), (50, 53, .putfield 1187352933), (57, 60, .jsr_w (4)), (61, 64, .getfield 1178964325), (65, 68, .putfield 1183158629), (70, 73, .getfield 1183158629), (73, 76, .jsr_w (4)), (77, 80, .putfield 1187352933), (84, 87, .getfield 1178964325), (88, 91, .getfield 1178964325), (93, 96, .jsr_w (-1)), (100, 103, .jsr_w (4)), (104, 107, .getfield 1178964325), (110, 113, .putfield 1183158629), (115, 118, .getfield 1183158629), (118, 121, .jsr_w (8)), (126, 129, .putfield 1187352933), (134, 137, .putfield 1183158629), (139, 142, .putfield 1187352933)]) (by decide +kernel) ?_)
  refine fs_c1 (fs_inv_virtual (pc := 1) (n := 7431257) C (Nat.le_of_ble_eq_true rfl) (Nat.le_of_ble_eq_true rfl) (fs_lk_virtual (idx := 30) (y := ⟨"BoardMachine$Walks$Region", "span", "()LBoardMachine$Walks$Span;"⟩) (bytes := prog_104_method_3_code) (maxL := 2) (rt := (Option.some (Jvm.ClassFile.FieldType.object "BoardMachine$Walks$Span"))) (d := 1) C (Nat.le_of_ble_eq_true rfl) (Nat.le_of_ble_eq_true rfl) (by decide +kernel) (kw K hw q2475) (kw K hw q398) (kw K hw q2473) (Or.inl (kw K hw q2472)) ⟨by decide, by decide⟩ rfl (Nat.le_of_ble_eq_true rfl) (Nat.le_of_ble_eq_true rfl) (fs_one (⟨_, rfl, kw K hw q2474⟩))) fs_con_mono o0) ?_
  refine fs_c1 (fs_inv_virtual (pc := 4) (n := 72356869) C (Nat.le_of_ble_eq_true rfl) (Nat.le_of_ble_eq_true rfl) (fs_lk_up (idx := 34) (x := ⟨"BoardMachine$Walks$Span", "ordinal", "()I"⟩) (owner := "java/lang/Enum") (y := ⟨"java/lang/Enum", "ordinal", "()I"⟩) (bytes := prog_123_method_2_code) (maxL := 1) (rt := (Option.some Jvm.ClassFile.FieldType.int)) (d := 1) C (Nat.le_of_ble_eq_true rfl) (Nat.le_of_ble_eq_true rfl) (by decide +kernel) (kw K hw q2489) (kw K hw q339) (kw K hw q2488) (kw K hw q2484) (kw K hw q2485) (va_Decl.of (kw (args := args) K hw q2488) (kw K hw q2489)) ⟨by decide, by decide⟩ rfl (Nat.le_of_ble_eq_true rfl) (Nat.le_of_ble_eq_true rfl) (fs_one (⟨_, rfl, kw K hw q2487⟩))) fs_con_mono o1) ?_
  refine fs_c1 (fs_tswl (pc := 7) (nx := 32) (d := 125) (lo := 1) (hi := 3) (offs := #[25, 49, 76]) C (by decide +kernel) (by decide +kernel)) ?_
  refine fs_c1 (fs_ldcl (pc := 33) (idx := 38) (v := 4) C (by decide +kernel) (kw K hw q2490)) ?_
  refine fs_c1 (fs_putf (pc := 38) (n := 1183158629) (idx := 40) (ref := "BoardMachine$Walks$Region") (O := "BoardMachine$Walks$Region") (name := "from") (desc := "J") (fin := false) (ty := .long) C (by decide +kernel) (Or.inl ⟨rfl, Or.inl (kw K hw q1954)⟩) (fun _ h => h) (Nat.le_of_ble_eq_true rfl) (Nat.le_of_ble_eq_true rfl) (Nat.le_of_ble_eq_true rfl) rfl rfl (by decide) (fs_one (⟨rfl, ff_89_282 s0 H0 oa D⟩))) ?_
  refine fs_c1 (fs_ldcl (pc := 42) (idx := 38) (v := 4) C (by decide +kernel) (kw K hw q2490)) ?_
  refine fs_c1 (fs_getf (pc := 46) (n := 1178964325) (idx := 44) (ref := "BoardMachine$Walks$Region") (O := "BoardMachine$Walks$Region") (name := "number") (desc := "J") C (by decide +kernel) (Or.inl (kw K hw q1953)) (fun _ h => h) (Nat.le_of_ble_eq_true rfl) (Nat.le_of_ble_eq_true rfl) (fs_one (⟨_, ff_89_281 s0 H0 oa D⟩))) ?_
  refine fs_c1 (fs_putf (pc := 50) (n := 1187352933) (idx := 47) (ref := "BoardMachine$Walks$Region") (O := "BoardMachine$Walks$Region") (name := "to") (desc := "J") (fin := false) (ty := .long) C (by decide +kernel) (Or.inl ⟨rfl, Or.inl (kw K hw q1955)⟩) (fun _ h => h) (Nat.le_of_ble_eq_true rfl) (Nat.le_of_ble_eq_true rfl) (Nat.le_of_ble_eq_true rfl) rfl rfl (by decide) (fs_one (⟨rfl, ff_89_283 s0 H0 oa D⟩))) ?_
  refine fs_c1 (fs_ldcl (pc := 57) (idx := 38) (v := 4) C (by decide +kernel) (kw K hw q2490)) ?_
  refine fs_c1 (fs_getf (pc := 61) (n := 1178964325) (idx := 44) (ref := "BoardMachine$Walks$Region") (O := "BoardMachine$Walks$Region") (name := "number") (desc := "J") C (by decide +kernel) (Or.inl (kw K hw q1953)) (fun _ h => h) (Nat.le_of_ble_eq_true rfl) (Nat.le_of_ble_eq_true rfl) (fs_one (⟨_, ff_89_281 s0 H0 oa D⟩))) ?_
  refine fs_c1 (fs_putf (pc := 65) (n := 1183158629) (idx := 40) (ref := "BoardMachine$Walks$Region") (O := "BoardMachine$Walks$Region") (name := "from") (desc := "J") (fin := false) (ty := .long) C (by decide +kernel) (Or.inl ⟨rfl, Or.inl (kw K hw q1954)⟩) (fun _ h => h) (Nat.le_of_ble_eq_true rfl) (Nat.le_of_ble_eq_true rfl) (Nat.le_of_ble_eq_true rfl) rfl rfl (by decide) (fs_one (⟨rfl, ff_89_282 s0 H0 oa D⟩))) ?_
  refine fs_c1 (fs_getf (pc := 70) (n := 1183158629) (idx := 40) (ref := "BoardMachine$Walks$Region") (O := "BoardMachine$Walks$Region") (name := "from") (desc := "J") C (by decide +kernel) (Or.inl (kw K hw q1954)) (fun _ h => h) (Nat.le_of_ble_eq_true rfl) (Nat.le_of_ble_eq_true rfl) (fs_one (⟨_, ff_89_282 s0 H0 oa D⟩))) ?_
  refine fs_c1 (fs_ldcl (pc := 73) (idx := 38) (v := 4) C (by decide +kernel) (kw K hw q2490)) ?_
  refine fs_c1 (fs_putf (pc := 77) (n := 1187352933) (idx := 47) (ref := "BoardMachine$Walks$Region") (O := "BoardMachine$Walks$Region") (name := "to") (desc := "J") (fin := false) (ty := .long) C (by decide +kernel) (Or.inl ⟨rfl, Or.inl (kw K hw q1955)⟩) (fun _ h => h) (Nat.le_of_ble_eq_true rfl) (Nat.le_of_ble_eq_true rfl) (Nat.le_of_ble_eq_true rfl) rfl rfl (by decide) (fs_one (⟨rfl, ff_89_283 s0 H0 oa D⟩))) ?_
  refine fs_c1 (fs_getf (pc := 84) (n := 1178964325) (idx := 44) (ref := "BoardMachine$Walks$Region") (O := "BoardMachine$Walks$Region") (name := "number") (desc := "J") C (by decide +kernel) (Or.inl (kw K hw q1953)) (fun _ h => h) (Nat.le_of_ble_eq_true rfl) (Nat.le_of_ble_eq_true rfl) (fs_one (⟨_, ff_89_281 s0 H0 oa D⟩))) ?_
  refine fs_c1 (fs_getf (pc := 88) (n := 1178964325) (idx := 44) (ref := "BoardMachine$Walks$Region") (O := "BoardMachine$Walks$Region") (name := "number") (desc := "J") C (by decide +kernel) (Or.inl (kw K hw q1953)) (fun _ h => h) (Nat.le_of_ble_eq_true rfl) (Nat.le_of_ble_eq_true rfl) (fs_one (⟨_, ff_89_281 s0 H0 oa D⟩))) ?_
  refine fs_c1 (fs_ldcl (pc := 93) (idx := 50) (v := -1) C (by decide +kernel) (kw K hw q2491)) ?_
  refine fs_c1 (fs_ldcl (pc := 100) (idx := 38) (v := 4) C (by decide +kernel) (kw K hw q2490)) ?_
  refine fs_c1 (fs_getf (pc := 104) (n := 1178964325) (idx := 44) (ref := "BoardMachine$Walks$Region") (O := "BoardMachine$Walks$Region") (name := "number") (desc := "J") C (by decide +kernel) (Or.inl (kw K hw q1953)) (fun _ h => h) (Nat.le_of_ble_eq_true rfl) (Nat.le_of_ble_eq_true rfl) (fs_one (⟨_, ff_89_281 s0 H0 oa D⟩))) ?_
  refine fs_c1 (fs_putf (pc := 110) (n := 1183158629) (idx := 40) (ref := "BoardMachine$Walks$Region") (O := "BoardMachine$Walks$Region") (name := "from") (desc := "J") (fin := false) (ty := .long) C (by decide +kernel) (Or.inl ⟨rfl, Or.inl (kw K hw q1954)⟩) (fun _ h => h) (Nat.le_of_ble_eq_true rfl) (Nat.le_of_ble_eq_true rfl) (Nat.le_of_ble_eq_true rfl) rfl rfl (by decide) (fs_one (⟨rfl, ff_89_282 s0 H0 oa D⟩))) ?_
  refine fs_c1 (fs_getf (pc := 115) (n := 1183158629) (idx := 40) (ref := "BoardMachine$Walks$Region") (O := "BoardMachine$Walks$Region") (name := "from") (desc := "J") C (by decide +kernel) (Or.inl (kw K hw q1954)) (fun _ h => h) (Nat.le_of_ble_eq_true rfl) (Nat.le_of_ble_eq_true rfl) (fs_one (⟨_, ff_89_282 s0 H0 oa D⟩))) ?_
  refine fs_c1 (fs_ldcl (pc := 118) (idx := 52) (v := 8) C (by decide +kernel) (kw K hw q2492)) ?_
  refine fs_c1 (fs_putf (pc := 126) (n := 1187352933) (idx := 47) (ref := "BoardMachine$Walks$Region") (O := "BoardMachine$Walks$Region") (name := "to") (desc := "J") (fin := false) (ty := .long) C (by decide +kernel) (Or.inl ⟨rfl, Or.inl (kw K hw q1955)⟩) (fun _ h => h) (Nat.le_of_ble_eq_true rfl) (Nat.le_of_ble_eq_true rfl) (Nat.le_of_ble_eq_true rfl) rfl rfl (by decide) (fs_one (⟨rfl, ff_89_283 s0 H0 oa D⟩))) ?_
  refine fs_c1 (fs_putf (pc := 134) (n := 1183158629) (idx := 40) (ref := "BoardMachine$Walks$Region") (O := "BoardMachine$Walks$Region") (name := "from") (desc := "J") (fin := false) (ty := .long) C (by decide +kernel) (Or.inl ⟨rfl, Or.inl (kw K hw q1954)⟩) (fun _ h => h) (Nat.le_of_ble_eq_true rfl) (Nat.le_of_ble_eq_true rfl) (Nat.le_of_ble_eq_true rfl) rfl rfl (by decide) (fs_one (⟨rfl, ff_89_282 s0 H0 oa D⟩))) ?_
  refine fs_c1 (fs_putf (pc := 139) (n := 1187352933) (idx := 47) (ref := "BoardMachine$Walks$Region") (O := "BoardMachine$Walks$Region") (name := "to") (desc := "J") (fin := false) (ty := .long) C (by decide +kernel) (Or.inl ⟨rfl, Or.inl (kw K hw q1955)⟩) (fun _ h => h) (Nat.le_of_ble_eq_true rfl) (Nat.le_of_ble_eq_true rfl) (Nat.le_of_ble_eq_true rfl) rfl rfl (by decide) (fs_one (⟨rfl, ff_89_283 s0 H0 oa D⟩))) ?_
  exact fs_c0
theorem hX86_lay (n : Nat) : fe_H (sX86_lay FX87_lay) cX86_lay [0, 2, 33] fe_kv [2] 35 (fun j => dX86_lay (FX86_lay_0 n (FX86_lay_L2 n j)) (FX86_lay_33 n (FX86_lay_L2 n j)) (FX86_lay_L2 n j)) := by
  intro j pc L st M r hc h
  rcases fe_mem_c hc with rfl | hc
  · obtain ⟨w0, m0, h⟩ := fe_lR_d h
    obtain ⟨rfl, hz⟩ := fe_t0_d h
    exact ⟨[(0, .ref w0)], (fe_cs m0 fe_nl), Or.inr ((bX86_lay_0 FX87_lay (FX86_lay_0 n (FX86_lay_L2 n j)) (FX86_lay_33 n (FX86_lay_L2 n j)) (FX86_lay_L2 n j) w0 M).symm.trans hz)⟩
  rcases fe_mem_c hc with rfl | hc
  · obtain ⟨w0, m0, h⟩ := fe_lR_d h
    obtain ⟨w1, m1, h⟩ := fe_lI_d h
    obtain ⟨rfl, hz⟩ := fe_t0_d h
    cases j with
    | zero => exact fe_no hz
    | succ j => exact ⟨[(0, .ref w0), (1, .int w1)], (fe_cs m0 (fe_cs m1 fe_nl)), Or.inl ⟨j, rfl, (bX86_lay_2 FX87_lay (FX86_lay_0 n (FX86_lay_L2 n j)) (FX86_lay_33 n (FX86_lay_L2 n j)) (FX86_lay_L2 n j) w0 w1 M).symm.trans hz⟩⟩
  rcases fe_mem_c hc with rfl | hc
  · obtain ⟨w0, m0, h⟩ := fe_lR_d h
    obtain ⟨w1, m1, h⟩ := fe_lI_d h
    obtain ⟨s1, t1, rfl, g1⟩ := fe_tL_d h
    obtain ⟨s0, t0, rfl, g0⟩ := fe_tR_d g1
    obtain ⟨rfl, hz⟩ := fe_t0_d g0
    exact ⟨[(0, .ref w0), (1, .int w1)], (fe_cs m0 (fe_cs m1 fe_nl)), Or.inr ((bX86_lay_33 FX87_lay (FX86_lay_0 n (FX86_lay_L2 n j)) (FX86_lay_33 n (FX86_lay_L2 n j)) (FX86_lay_L2 n j) w0 w1 s0 s1 M).symm.trans hz)⟩
  exact fe_mem_0 hc
theorem vX86_lay (n : Nat) : fe_SB (sX86_lay FX87_lay) := by
  refine ⟨?_, ?_, ?_, ?_⟩
  · intro i As M r h
    rcases fe_bc h with h | h
    · obtain ⟨v0, t0, rfl, g0⟩ := fe_tR_d h
      obtain ⟨v1, t1, rfl, g1⟩ := fe_tL_d g0
      obtain ⟨rfl, hz⟩ := fe_t0_d g1
      exact mX87_lay v0 v1 M r hz
    exact fe_no h
  · intro i As M r h
    exact fe_no h
  · intro i As M r h
    exact fe_no h
  · intro i As M r h
    exact fe_no h
theorem eX86_lay (g0 : Nat → FM → Option (FM)) (g33 : Nat → Int32 → Nat → Int64 → FM → Option (FM)) (k2 : Nat → Int32 → FM → Option (FM)) (a0 : Nat) (M : FM) : dX86_lay g0 g33 k2 0 [(0, .ref a0)] [] M = g0 a0 M := by rfl
theorem mX86_lay (n : Nat) (a0 : Nat) (M : FM) (r : FM) (h : FX86_lay n a0 M = some r) : fm_nx M ≤ fm_nx r ∧ fm_ns M ≤ fm_ns r :=
  fe_mono (L0 := [(0, .ref a0)]) (vX86_lay n) (by decide +kernel) (hX86_lay n) (fe_kv_k r) n rfl ((eX86_lay (FX86_lay_0 n (FX86_lay_L2 n n)) (FX86_lay_33 n (FX86_lay_L2 n n)) (FX86_lay_L2 n n) a0 M).trans h)
theorem zX86_lay {s0 : State} {H0 : Heap} {oa : Nat → Nat} {D : va_G} (K : fk s0 H0 oa D) (l : Launch) (n : Nat) (a0 : Nat) (M : FM) (r : FM) (h : FX86_lay n a0 M = some r) : fs_Con (fk_E s0 H0 oa D) l 3 ⟨"BoardMachine$Walks$Regions", "lay", "()V"⟩ prog_105_method_2_code 2 (Option.none : Option Jvm.ClassFile.FieldType) [.ref a0] M none r := by
  have o0 : fs_OS (sX86_lay FX87_lay) 0 0 (fs_Con (fk_E s0 H0 oa D) l 2 ⟨"BoardMachine$Walks$Region", "lay", "(J)V"⟩ prog_104_method_5_code 5 (Option.none : Option Jvm.ClassFile.FieldType)) := by
    intro As M r h
    obtain ⟨v0, t0, rfl, g0⟩ := fe_tR_d h
    obtain ⟨v1, t1, rfl, g1⟩ := fe_tL_d g0
    obtain ⟨rfl, hz⟩ := fe_t0_d g1
    exact zX87_lay K l v0 v1 M r hz
  refine fs_method (own := "BoardMachine$Walks$Regions") rfl (by decide) K.2.1 (by rw [fe_slen]; exact (Nat.le_of_ble_eq_true rfl)) (mX86_lay n a0 M r h) (hX86_lay n) n rfl (L0 := [(0, .ref a0)]) (fun E => fe_args_e E [.ref a0] 0) ((eX86_lay (FX86_lay_0 n (FX86_lay_L2 n n)) (FX86_lay_33 n (FX86_lay_L2 n n)) (FX86_lay_L2 n n) a0 M).trans h) (fe_kv_k r) (fun H hR => fs_nr_o (by decide) (by decide)) ?_
  intro p e s m args below meth c Q C hnm
  have hw : s0.WarmedH s.vm := C.2.2.2.2.1
  refine fe_all C fk_hwr cX86_lay [9, 23, 30, 33, 44, 49] (by decide +kernel) (fe_fil (cps := [(9, 12, .getfield 1191551338), (23, 26, .getfield 1191551338), (30, 33, .getfield 1178964325), (33, 36, .invokevirtual 8479833), (44, 47, .getfield 1195745640), (49, 52, .putfield 1195745640)]) (by decide +kernel) ?_)
  refine fs_c1 (fs_getf (pc := 9) (n := 1191551338) (idx := 11) (ref := "BoardMachine$Walks$Regions") (O := "BoardMachine$Walks$Regions") (name := "all") (desc := "[LBoardMachine$Walks$Region;") C (by decide +kernel) (Or.inl (kw K hw q1965)) (fun _ h => h) (Nat.le_of_ble_eq_true rfl) (Nat.le_of_ble_eq_true rfl) (fs_one (⟨_, ff_90_284 s0 H0 oa D⟩))) ?_
  refine fs_c1 (fs_getf (pc := 23) (n := 1191551338) (idx := 11) (ref := "BoardMachine$Walks$Regions") (O := "BoardMachine$Walks$Regions") (name := "all") (desc := "[LBoardMachine$Walks$Region;") C (by decide +kernel) (Or.inl (kw K hw q1965)) (fun _ h => h) (Nat.le_of_ble_eq_true rfl) (Nat.le_of_ble_eq_true rfl) (fs_one (⟨_, ff_90_284 s0 H0 oa D⟩))) ?_
  refine fs_c1 (fs_getf (pc := 30) (n := 1178964325) (idx := 18) (ref := "BoardMachine$Walks$Region") (O := "BoardMachine$Walks$Region") (name := "number") (desc := "J") C (by decide +kernel) (Or.inr ⟨_, kF K hw q1951⟩) (fun _ h => h) (Nat.le_of_ble_eq_true rfl) (Nat.le_of_ble_eq_true rfl) (fs_one (⟨_, ff_89_281 s0 H0 oa D⟩))) ?_
  refine fs_c1 (fs_inv_virtual (pc := 33) (n := 8479833) C (Nat.le_of_ble_eq_true rfl) (Nat.le_of_ble_eq_true rfl) (fs_lk_virtual (idx := 22) (y := ⟨"BoardMachine$Walks$Region", "lay", "(J)V"⟩) (bytes := prog_104_method_5_code) (maxL := 5) (rt := (Option.none : Option Jvm.ClassFile.FieldType)) (d := 2) C (Nat.le_of_ble_eq_true rfl) (Nat.le_of_ble_eq_true rfl) (by decide +kernel) (kw K hw q2471) (kw K hw q398) (kw K hw q2469) (Or.inl (kw K hw q2468)) ⟨by decide, by decide⟩ rfl (Nat.le_of_ble_eq_true rfl) (Nat.le_of_ble_eq_true rfl) (fs_one (⟨_, rfl, kw K hw q2470⟩))) fs_con_mono o0) ?_
  refine fs_c1 (fs_getf (pc := 44) (n := 1195745640) (idx := 26) (ref := "BoardMachine$Walks$Regions") (O := "BoardMachine$Walks$Regions") (name := "version") (desc := "I") C (by decide +kernel) (Or.inl (kw K hw q1967)) (fun _ h => h) (Nat.le_of_ble_eq_true rfl) (Nat.le_of_ble_eq_true rfl) (fs_one (⟨_, ff_90_285 s0 H0 oa D⟩))) ?_
  refine fs_c1 (fs_putf (pc := 49) (n := 1195745640) (idx := 26) (ref := "BoardMachine$Walks$Regions") (O := "BoardMachine$Walks$Regions") (name := "version") (desc := "I") (fin := false) (ty := .int) C (by decide +kernel) (Or.inl ⟨rfl, Or.inl (kw K hw q1967)⟩) (fun _ h => h) (Nat.le_of_ble_eq_true rfl) (Nat.le_of_ble_eq_true rfl) (Nat.le_of_ble_eq_true rfl) rfl rfl (by decide) (fs_one (⟨rfl, ff_90_285 s0 H0 oa D⟩))) ?_
  exact fs_c0
theorem hX12_drop : fe_H (sX12_drop) cX12_drop [0, 12] fe_ki [] 20 (fun _ => dX12_drop FX12_drop_0 FX12_drop_12) := by
  intro j pc L st M r hc h
  rcases fe_mem_c hc with rfl | hc
  · obtain ⟨w0, m0, h⟩ := fe_lR_d h
    obtain ⟨rfl, hz⟩ := fe_t0_d h
    exact ⟨[(0, .ref w0)], (fe_cs m0 fe_nl), Or.inr ((bX12_drop_0 FX12_drop_0 FX12_drop_12 w0 M).symm.trans hz)⟩
  rcases fe_mem_c hc with rfl | hc
  · obtain ⟨w0, m0, h⟩ := fe_lR_d h
    obtain ⟨s0, t0, rfl, g0⟩ := fe_tI_d h
    obtain ⟨rfl, hz⟩ := fe_t0_d g0
    exact ⟨[(0, .ref w0)], (fe_cs m0 fe_nl), Or.inr ((bX12_drop_12 FX12_drop_0 FX12_drop_12 w0 s0 M).symm.trans hz)⟩
  exact fe_mem_0 hc
theorem vX12_drop : fe_SB (sX12_drop) := by
  refine ⟨?_, ?_, ?_, ?_⟩
  · intro i As M r h
    exact fe_no h
  · intro i As M r h
    exact fe_no h
  · intro i As M r h
    exact fe_no h
  · intro i As M r h
    exact fe_no h
theorem eX12_drop (g0 : Nat → FM → Option (Int32 × FM)) (g12 : Nat → Int32 → FM → Option (Int32 × FM)) (a0 : Nat) (M : FM) : dX12_drop g0 g12 0 [(0, .ref a0)] [] M = g0 a0 M := by rfl
theorem mX12_drop (a0 : Nat) (M : FM) (r : Int32 × FM) (h : FX12_drop a0 M = some r) : fm_nx M ≤ fm_nx r.2 ∧ fm_ns M ≤ fm_ns r.2 :=
  fe_mono (L0 := [(0, .ref a0)]) (vX12_drop) (by decide +kernel) (hX12_drop) (fe_ki_k r) 0 rfl ((eX12_drop FX12_drop_0 FX12_drop_12 a0 M).trans h)
theorem zX12_drop {s0 : State} {H0 : Heap} {oa : Nat → Nat} {D : va_G} (K : fk s0 H0 oa D) (l : Launch) (a0 : Nat) (M : FM) (r : Int32 × FM) (h : FX12_drop a0 M = some r) : fs_Con (fk_E s0 H0 oa D) l 1 ⟨"BoardMachine$Memories$Reservation", "drop", "()Z"⟩ prog_83_method_3_code 2 (Option.some Jvm.ClassFile.FieldType.boolean) [.ref a0] M (some (.int r.1)) r.2 := by
  refine fs_method (own := "BoardMachine$Memories$Reservation") rfl (by decide) K.2.1 (by rw [fe_slen]; exact (Nat.le_of_ble_eq_true rfl)) (mX12_drop a0 M r h) (hX12_drop) 0 rfl (L0 := [(0, .ref a0)]) (fun E => fe_args_e E [.ref a0] 0) ((eX12_drop FX12_drop_0 FX12_drop_12 a0 M).trans h) (fe_ki_k r) (fun H hR => fs_nr_o (by decide) (by decide)) ?_
  intro p e s m args below meth c Q C hnm
  have hw : s0.WarmedH s.vm := C.2.2.2.2.1
  refine fe_all C fk_hwr cX12_drop [1, 15] (by decide +kernel) (fe_fil (cps := [(1, 4, .getfield 872718632), (15, 18, .putfield 872718632)]) (by decide +kernel) ?_)
  refine fs_c1 (fs_getf (pc := 1) (n := 872718632) (idx := 13) (ref := "BoardMachine$Memories$Reservation") (O := "BoardMachine$Memories$Reservation") (name := "size") (desc := "I") C (by decide +kernel) (Or.inl (kw K hw q642)) (fun _ h => h) (Nat.le_of_ble_eq_true rfl) (Nat.le_of_ble_eq_true rfl) (fs_one (⟨_, ff_74_208 s0 H0 oa D⟩))) ?_
  refine fs_c1 (fs_putf (pc := 15) (n := 872718632) (idx := 13) (ref := "BoardMachine$Memories$Reservation") (O := "BoardMachine$Memories$Reservation") (name := "size") (desc := "I") (fin := false) (ty := .int) C (by decide +kernel) (Or.inl ⟨rfl, Or.inl (kw K hw q642)⟩) (fun _ h => h) (Nat.le_of_ble_eq_true rfl) (Nat.le_of_ble_eq_true rfl) (Nat.le_of_ble_eq_true rfl) rfl rfl (by decide) (fs_one (⟨rfl, ff_74_208 s0 H0 oa D⟩))) ?_
  exact fs_c0
theorem hX48_set : fe_H (sX48_set) cX48_set [0, 11] fe_kv [] 20 (fun _ => dX48_set FX48_set_0 FX48_set_11) := by
  intro j pc L st M r hc h
  rcases fe_mem_c hc with rfl | hc
  · obtain ⟨w0, m0, h⟩ := fe_lR_d h
    obtain ⟨w1, m1, h⟩ := fe_lI_d h
    obtain ⟨w2, m2, h⟩ := fe_lL_d h
    obtain ⟨rfl, hz⟩ := fe_t0_d h
    exact ⟨[(0, .ref w0), (1, .int w1), (2, .long w2)], (fe_cs m0 (fe_cs m1 (fe_cs m2 fe_nl))), Or.inr ((bX48_set_0 FX48_set_0 FX48_set_11 w0 w1 w2 M).symm.trans hz)⟩
  rcases fe_mem_c hc with rfl | hc
  · obtain ⟨rfl, hz⟩ := fe_t0_d h
    exact ⟨[], fe_nl, Or.inr ((bX48_set_11 FX48_set_0 FX48_set_11 M).symm.trans hz)⟩
  exact fe_mem_0 hc
theorem vX48_set : fe_SB (sX48_set) := by
  refine ⟨?_, ?_, ?_, ?_⟩
  · intro i As M r h
    exact fe_no h
  · intro i As M r h
    exact fe_no h
  · intro i As M r h
    exact fe_no h
  · intro i As M r h
    exact fe_no h
theorem eX48_set (g0 : Nat → Int32 → Int64 → FM → Option (FM)) (g11 : FM → Option (FM)) (a0 : Nat) (a1 : Int32) (a2 : Int64) (M : FM) : dX48_set g0 g11 0 [(0, .ref a0), (1, .int a1), (2, .long a2)] [] M = g0 a0 a1 a2 M := by rfl
theorem mX48_set (a0 : Nat) (a1 : Int32) (a2 : Int64) (M : FM) (r : FM) (h : FX48_set a0 a1 a2 M = some r) : fm_nx M ≤ fm_nx r ∧ fm_ns M ≤ fm_ns r :=
  fe_mono (L0 := [(0, .ref a0), (1, .int a1), (2, .long a2)]) (vX48_set) (by decide +kernel) (hX48_set) (fe_kv_k r) 0 rfl ((eX48_set FX48_set_0 FX48_set_11 a0 a1 a2 M).trans h)
theorem zX48_set {s0 : State} {H0 : Heap} {oa : Nat → Nat} {D : va_G} (K : fk s0 H0 oa D) (l : Launch) (a0 : Nat) (a1 : Int32) (a2 : Int64) (M : FM) (r : FM) (h : FX48_set a0 a1 a2 M = some r) : fs_Con (fk_E s0 H0 oa D) l 1 ⟨"BoardMachine$Integers$Registers", "set", "(IJ)V"⟩ prog_71_method_2_code 4 (Option.none : Option Jvm.ClassFile.FieldType) [.ref a0, .int a1, .long a2] M none r := by
  refine fs_method (own := "BoardMachine$Integers$Registers") rfl (by decide) K.2.1 (by rw [fe_slen]; exact (Nat.le_of_ble_eq_true rfl)) (mX48_set a0 a1 a2 M r h) (hX48_set) 0 rfl (L0 := [(0, .ref a0), (1, .int a1), (2, .long a2)]) (fun E => fe_args_e E [.ref a0, .int a1, .long a2] 0) ((eX48_set FX48_set_0 FX48_set_11 a0 a1 a2 M).trans h) (fe_kv_k r) (fun H hR => fs_nr_o (by decide) (by decide)) ?_
  intro p e s m args below meth c Q C hnm
  have hw : s0.WarmedH s.vm := C.2.2.2.2.1
  refine fe_all C fk_hwr cX48_set [5] (by decide +kernel) (fe_fil (cps := [(5, 8, .getfield 746848514)]) (by decide +kernel) ?_)
  refine fs_c1 (fs_getf (pc := 5) (n := 746848514) (idx := 7) (ref := "BoardMachine$Integers$Registers") (O := "BoardMachine$Integers$Registers") (name := "held") (desc := "[J") C (by decide +kernel) (Or.inl (kw K hw q1279)) (fun _ h => h) (Nat.le_of_ble_eq_true rfl) (Nat.le_of_ble_eq_true rfl) (fs_one (⟨_, ff_64_178 s0 H0 oa D⟩))) ?_
  exact fs_c0
theorem hX46_reset (n : Nat) : fe_H (sX46_reset FX47_jump FX59_putFlags FX59_putMode FX59_calm FX46_resetControls (FX86_lay n) FX12_drop FX48_set) cX46_reset [0, 2, 90] fe_kv [2, 90] 98 (fun j => dX46_reset (FX46_reset_0 n (FX46_reset_L n j).1 (FX46_reset_L n j).2) (FX46_reset_L n j).1 (FX46_reset_L n j).2) := by
  intro j pc L st M r hc h
  rcases fe_mem_c hc with rfl | hc
  · obtain ⟨w0, m0, h⟩ := fe_lR_d h
    obtain ⟨w1, m1, h⟩ := fe_lL_d h
    obtain ⟨rfl, hz⟩ := fe_t0_d h
    exact ⟨[(0, .ref w0), (1, .long w1)], (fe_cs m0 (fe_cs m1 fe_nl)), Or.inr ((bX46_reset_0 FX47_jump FX59_putFlags FX59_putMode FX59_calm FX46_resetControls (FX86_lay n) FX12_drop FX48_set (FX46_reset_0 n (FX46_reset_L n j).1 (FX46_reset_L n j).2) (FX46_reset_L n j).1 (FX46_reset_L n j).2 w0 w1 M).symm.trans hz)⟩
  rcases fe_mem_c hc with rfl | hc
  · obtain ⟨w0, m0, h⟩ := fe_lR_d h
    obtain ⟨w1, m1, h⟩ := fe_lL_d h
    obtain ⟨w3, m3, h⟩ := fe_lI_d h
    obtain ⟨rfl, hz⟩ := fe_t0_d h
    cases j with
    | zero => exact fe_no hz
    | succ j => exact ⟨[(0, .ref w0), (1, .long w1), (3, .int w3)], (fe_cs m0 (fe_cs m1 (fe_cs m3 fe_nl))), Or.inl ⟨j, rfl, (bX46_reset_2 FX47_jump FX59_putFlags FX59_putMode FX59_calm FX46_resetControls (FX86_lay n) FX12_drop FX48_set (FX46_reset_0 n (FX46_reset_L n j).1 (FX46_reset_L n j).2) (FX46_reset_L n j).1 (FX46_reset_L n j).2 w0 w1 w3 M).symm.trans hz⟩⟩
  rcases fe_mem_c hc with rfl | hc
  · obtain ⟨w0, m0, h⟩ := fe_lR_d h
    obtain ⟨w3, m3, h⟩ := fe_lR_d h
    obtain ⟨w4, m4, h⟩ := fe_lI_d h
    obtain ⟨w5, m5, h⟩ := fe_lI_d h
    obtain ⟨rfl, hz⟩ := fe_t0_d h
    cases j with
    | zero => exact fe_no hz
    | succ j => exact ⟨[(0, .ref w0), (3, .ref w3), (4, .int w4), (5, .int w5)], (fe_cs m0 (fe_cs m3 (fe_cs m4 (fe_cs m5 fe_nl)))), Or.inl ⟨j, rfl, (bX46_reset_90 FX47_jump FX59_putFlags FX59_putMode FX59_calm FX46_resetControls (FX86_lay n) FX12_drop FX48_set (FX46_reset_0 n (FX46_reset_L n j).1 (FX46_reset_L n j).2) (FX46_reset_L n j).1 (FX46_reset_L n j).2 w0 w3 w4 w5 M).symm.trans hz⟩⟩
  exact fe_mem_0 hc
theorem vX46_reset (n : Nat) : fe_SB (sX46_reset FX47_jump FX59_putFlags FX59_putMode FX59_calm FX46_resetControls (FX86_lay n) FX12_drop FX48_set) := by
  refine ⟨?_, ?_, ?_, ?_⟩
  · intro i As M r h
    rcases fe_bc h with h | h
    · obtain ⟨v0, t0, rfl, g0⟩ := fe_tR_d h
      obtain ⟨v1, t1, rfl, g1⟩ := fe_tL_d g0
      obtain ⟨rfl, hz⟩ := fe_t0_d g1
      exact mX47_jump v0 v1 M r hz
    rcases fe_bc h with h | h
    · obtain ⟨v0, t0, rfl, g0⟩ := fe_tR_d h
      obtain ⟨v1, t1, rfl, g1⟩ := fe_tI_d g0
      obtain ⟨rfl, hz⟩ := fe_t0_d g1
      exact mX59_putFlags v0 v1 M r hz
    rcases fe_bc h with h | h
    · obtain ⟨v0, t0, rfl, g0⟩ := fe_tR_d h
      obtain ⟨v1, t1, rfl, g1⟩ := fe_tI_d g0
      obtain ⟨rfl, hz⟩ := fe_t0_d g1
      exact mX59_putMode v0 v1 M r hz
    rcases fe_bc h with h | h
    · obtain ⟨v0, t0, rfl, g0⟩ := fe_tR_d h
      obtain ⟨rfl, hz⟩ := fe_t0_d g0
      exact mX59_calm v0 M r hz
    rcases fe_bc h with h | h
    · obtain ⟨v0, t0, rfl, g0⟩ := fe_tR_d h
      obtain ⟨rfl, hz⟩ := fe_t0_d g0
      exact mX46_resetControls v0 M r hz
    rcases fe_bc h with h | h
    · obtain ⟨v0, t0, rfl, g0⟩ := fe_tR_d h
      obtain ⟨rfl, hz⟩ := fe_t0_d g0
      exact mX86_lay n v0 M r hz
    rcases fe_bc h with h | h
    · obtain ⟨v0, t0, rfl, g0⟩ := fe_tR_d h
      obtain ⟨v1, t1, rfl, g1⟩ := fe_tI_d g0
      obtain ⟨v2, t2, rfl, g2⟩ := fe_tL_d g1
      obtain ⟨rfl, hz⟩ := fe_t0_d g2
      exact mX48_set v0 v1 v2 M r hz
    exact fe_no h
  · intro i As M r h
    rcases fe_bc h with h | h
    · obtain ⟨v0, t0, rfl, g0⟩ := fe_tR_d h
      obtain ⟨rfl, hz⟩ := fe_t0_d g0
      exact mX12_drop v0 M r hz
    exact fe_no h
  · intro i As M r h
    exact fe_no h
  · intro i As M r h
    exact fe_no h
theorem eX46_reset (g0 : Nat → Int64 → FM → Option (FM)) (k2 : Nat → Int64 → Int32 → FM → Option (FM)) (k90 : Nat → Nat → Int32 → Int32 → FM → Option (FM)) (a0 : Nat) (a1 : Int64) (M : FM) : dX46_reset g0 k2 k90 0 [(0, .ref a0), (1, .long a1)] [] M = g0 a0 a1 M := by rfl
theorem mX46_reset (n : Nat) (a0 : Nat) (a1 : Int64) (M : FM) (r : FM) (h : FX46_reset n a0 a1 M = some r) : fm_nx M ≤ fm_nx r ∧ fm_ns M ≤ fm_ns r :=
  fe_mono (L0 := [(0, .ref a0), (1, .long a1)]) (vX46_reset n) (by decide +kernel) (hX46_reset n) (fe_kv_k r) n rfl ((eX46_reset (FX46_reset_0 n (FX46_reset_L n n).1 (FX46_reset_L n n).2) (FX46_reset_L n n).1 (FX46_reset_L n n).2 a0 a1 M).trans h)
theorem zX46_reset {s0 : State} {H0 : Heap} {oa : Nat → Nat} {D : va_G} (K : fk s0 H0 oa D) (l : Launch) (n : Nat) (a0 : Nat) (a1 : Int64) (M : FM) (r : FM) (h : FX46_reset n a0 a1 M = some r) : fs_Con (fk_E s0 H0 oa D) l 4 ⟨"BoardMachine$Processor", "reset", "(J)V"⟩ prog_86_method_2_code 7 (Option.none : Option Jvm.ClassFile.FieldType) [.ref a0, .long a1] M none r := by
  have o0 : fs_OS (sX46_reset FX47_jump FX59_putFlags FX59_putMode FX59_calm FX46_resetControls (FX86_lay n) FX12_drop FX48_set) 0 0 (fs_Con (fk_E s0 H0 oa D) l 1 ⟨"BoardMachine$Integers$IntegerUnit", "jump", "(J)V"⟩ prog_69_method_3_code 3 (Option.none : Option Jvm.ClassFile.FieldType)) := by
    intro As M r h
    obtain ⟨v0, t0, rfl, g0⟩ := fe_tR_d h
    obtain ⟨v1, t1, rfl, g1⟩ := fe_tL_d g0
    obtain ⟨rfl, hz⟩ := fe_t0_d g1
    exact zX47_jump K l v0 v1 M r hz
  have o1 : fs_OS (sX46_reset FX47_jump FX59_putFlags FX59_putMode FX59_calm FX46_resetControls (FX86_lay n) FX12_drop FX48_set) 1 0 (fs_Con (fk_E s0 H0 oa D) l 1 ⟨"BoardMachine$Floats$FloatUnit", "putFlags", "(I)V"⟩ prog_29_method_20_code 2 (Option.none : Option Jvm.ClassFile.FieldType)) := by
    intro As M r h
    obtain ⟨v0, t0, rfl, g0⟩ := fe_tR_d h
    obtain ⟨v1, t1, rfl, g1⟩ := fe_tI_d g0
    obtain ⟨rfl, hz⟩ := fe_t0_d g1
    exact zX59_putFlags K l v0 v1 M r hz
  have o2 : fs_OS (sX46_reset FX47_jump FX59_putFlags FX59_putMode FX59_calm FX46_resetControls (FX86_lay n) FX12_drop FX48_set) 2 0 (fs_Con (fk_E s0 H0 oa D) l 1 ⟨"BoardMachine$Floats$FloatUnit", "putMode", "(I)V"⟩ prog_29_method_21_code 2 (Option.none : Option Jvm.ClassFile.FieldType)) := by
    intro As M r h
    obtain ⟨v0, t0, rfl, g0⟩ := fe_tR_d h
    obtain ⟨v1, t1, rfl, g1⟩ := fe_tI_d g0
    obtain ⟨rfl, hz⟩ := fe_t0_d g1
    exact zX59_putMode K l v0 v1 M r hz
  have o3 : fs_OS (sX46_reset FX47_jump FX59_putFlags FX59_putMode FX59_calm FX46_resetControls (FX86_lay n) FX12_drop FX48_set) 3 0 (fs_Con (fk_E s0 H0 oa D) l 1 ⟨"BoardMachine$Floats$FloatUnit", "calm", "()V"⟩ prog_29_method_23_code 1 (Option.none : Option Jvm.ClassFile.FieldType)) := by
    intro As M r h
    obtain ⟨v0, t0, rfl, g0⟩ := fe_tR_d h
    obtain ⟨rfl, hz⟩ := fe_t0_d g0
    exact zX59_calm K l v0 M r hz
  have o4 : fs_OS (sX46_reset FX47_jump FX59_putFlags FX59_putMode FX59_calm FX46_resetControls (FX86_lay n) FX12_drop FX48_set) 4 0 (fs_Con (fk_E s0 H0 oa D) l 2 ⟨"BoardMachine$Processor", "resetControls", "()V"⟩ prog_86_method_3_code 1 (Option.none : Option Jvm.ClassFile.FieldType)) := by
    intro As M r h
    obtain ⟨v0, t0, rfl, g0⟩ := fe_tR_d h
    obtain ⟨rfl, hz⟩ := fe_t0_d g0
    exact zX46_resetControls K l v0 M r hz
  have o5 : fs_OS (sX46_reset FX47_jump FX59_putFlags FX59_putMode FX59_calm FX46_resetControls (FX86_lay n) FX12_drop FX48_set) 5 0 (fs_Con (fk_E s0 H0 oa D) l 3 ⟨"BoardMachine$Walks$Regions", "lay", "()V"⟩ prog_105_method_2_code 2 (Option.none : Option Jvm.ClassFile.FieldType)) := by
    intro As M r h
    obtain ⟨v0, t0, rfl, g0⟩ := fe_tR_d h
    obtain ⟨rfl, hz⟩ := fe_t0_d g0
    exact zX86_lay K l n v0 M r hz
  have o6 : fs_OS (sX46_reset FX47_jump FX59_putFlags FX59_putMode FX59_calm FX46_resetControls (FX86_lay n) FX12_drop FX48_set) 6 1 (fs_Con (fk_E s0 H0 oa D) l 1 ⟨"BoardMachine$Memories$Reservation", "drop", "()Z"⟩ prog_83_method_3_code 2 (Option.some Jvm.ClassFile.FieldType.boolean)) := by
    intro As M r h
    obtain ⟨v0, t0, rfl, g0⟩ := fe_tR_d h
    obtain ⟨rfl, hz⟩ := fe_t0_d g0
    exact zX12_drop K l v0 M r hz
  have o7 : fs_OS (sX46_reset FX47_jump FX59_putFlags FX59_putMode FX59_calm FX46_resetControls (FX86_lay n) FX12_drop FX48_set) 7 0 (fs_Con (fk_E s0 H0 oa D) l 1 ⟨"BoardMachine$Integers$Registers", "set", "(IJ)V"⟩ prog_71_method_2_code 4 (Option.none : Option Jvm.ClassFile.FieldType)) := by
    intro As M r h
    obtain ⟨v0, t0, rfl, g0⟩ := fe_tR_d h
    obtain ⟨v1, t1, rfl, g1⟩ := fe_tI_d g0
    obtain ⟨v2, t2, rfl, g2⟩ := fe_tL_d g1
    obtain ⟨rfl, hz⟩ := fe_t0_d g2
    exact zX48_set K l v0 v1 v2 M r hz
  refine fs_method (own := "BoardMachine$Processor") rfl (by decide) K.2.1 (by rw [fe_slen]; exact (Nat.le_of_ble_eq_true rfl)) (mX46_reset n a0 a1 M r h) (hX46_reset n) n rfl (L0 := [(0, .ref a0), (1, .long a1)]) (fun E => fe_args_e E [.ref a0, .long a1] 0) ((eX46_reset (FX46_reset_0 n (FX46_reset_L n n).1 (FX46_reset_L n n).2) (FX46_reset_L n n).1 (FX46_reset_L n n).2 a0 a1 M).trans h) (fe_kv_k r) (fun H hR => fs_nr_o (by decide) (by decide)) ?_
  intro p e s m args below meth c Q C hnm
  have hw : s0.WarmedH s.vm := C.2.2.2.2.1
  refine fe_all C fk_hwr cX46_reset [9, 12, 15, 22, 25, 38, 42, 46, 50, 54, 58, 62, 65, 69, 73, 76, 79, 106, 112, 122, 125, 128, 133, 137, 140, 143, 147, 151, 156, 159, 165, 169, 173, 176, 181, 184] (by decide +kernel) (fe_fil (cps := [(9, 12, .getfield 885305646), (12, 15, .getfield 717484286), (15, 18, .getfield 746848514), (22, 25, .getfield 889499950), (25, 28, .getfield 390201474), (38, 41, .getfield 885305646), (42, 45, .invokevirtual 8453183), (46, 49, .getfield 889499950), (50, 53, .invokevirtual 75530272), (54, 57, .getfield 889499950), (58, 61, .invokevirtual 142639136), (62, 65, .getfield 889499950), (65, 68, .invokevirtual 205553696), (69, 72, .invokevirtual 272706635), (73, 76, .getfield 897888558), (76, 79, .getfield 1208332654), (79, 82, .getfield 1191551338), (106, 109, .putfield 1174770020), (112, 115, .putfield 1178964325), (122, 125, .getfield 897888558), (125, 128, .getfield 1208332654), (128, 131, .invokevirtual 339830874), (133, 136, .putfield 914665775), (137, 140, .getfield 881111342), (140, 143, .getfield 75542574), (143, 146, .getfield 860131622), (147, 150, .getfield 876917036), (151, 154, .invokevirtual 407971914), (156, 159, .getfield 885305646), (159, 162, .getfield 717484286), (165, 168, .getfield 876917036), (169, 172, .invokevirtual 482410560), (173, 176, .getfield 885305646), (176, 179, .getfield 717484286), (181, 184, .jsr_w (2151669760)), (184, 187, .invokevirtual 482410560)]) (by decide +kernel) ?_)
  refine fs_c1 (fs_getf (pc := 9) (n := 885305646) (idx := 12) (ref := "BoardMachine$Processor") (O := "BoardMachine$Processor") (name := "integers") (desc := "LBoardMachine$Integers$IntegerUnit;") C (by decide +kernel) (Or.inl (kw K hw q2078)) (fun _ h => h) (Nat.le_of_ble_eq_true rfl) (Nat.le_of_ble_eq_true rfl) (fs_one (⟨_, ff_75_211 s0 H0 oa D⟩))) ?_
  refine fs_c1 (fs_getf (pc := 12) (n := 717484286) (idx := 80) (ref := "BoardMachine$Integers$IntegerUnit") (O := "BoardMachine$Integers$IntegerUnit") (name := "registers") (desc := "LBoardMachine$Integers$Registers;") C (by decide +kernel) (Or.inr ⟨_, kF K hw q1404⟩) (fun _ h => h) (Nat.le_of_ble_eq_true rfl) (Nat.le_of_ble_eq_true rfl) (fs_one (⟨_, ff_63_171 s0 H0 oa D⟩))) ?_
  refine fs_c1 (fs_getf (pc := 15) (n := 746848514) (idx := 84) (ref := "BoardMachine$Integers$Registers") (O := "BoardMachine$Integers$Registers") (name := "held") (desc := "[J") C (by decide +kernel) (Or.inr ⟨_, kF K hw q1283⟩) (fun _ h => h) (Nat.le_of_ble_eq_true rfl) (Nat.le_of_ble_eq_true rfl) (fs_one (⟨_, ff_64_178 s0 H0 oa D⟩))) ?_
  refine fs_c1 (fs_getf (pc := 22) (n := 889499950) (idx := 21) (ref := "BoardMachine$Processor") (O := "BoardMachine$Processor") (name := "floats") (desc := "LBoardMachine$Floats$FloatUnit;") C (by decide +kernel) (Or.inl (kw K hw q2080)) (fun _ h => h) (Nat.le_of_ble_eq_true rfl) (Nat.le_of_ble_eq_true rfl) (fs_one (⟨_, ff_75_212 s0 H0 oa D⟩))) ?_
  refine fs_c1 (fs_getf (pc := 25) (n := 390201474) (idx := 90) (ref := "BoardMachine$Floats$FloatUnit") (O := "BoardMachine$Floats$FloatUnit") (name := "registers") (desc := "[J") C (by decide +kernel) (Or.inr ⟨_, kF K hw q1607⟩) (fun _ h => h) (Nat.le_of_ble_eq_true rfl) (Nat.le_of_ble_eq_true rfl) (fs_one (⟨_, ff_32_93 s0 H0 oa D⟩))) ?_
  refine fs_c1 (fs_getf (pc := 38) (n := 885305646) (idx := 12) (ref := "BoardMachine$Processor") (O := "BoardMachine$Processor") (name := "integers") (desc := "LBoardMachine$Integers$IntegerUnit;") C (by decide +kernel) (Or.inl (kw K hw q2078)) (fun _ h => h) (Nat.le_of_ble_eq_true rfl) (Nat.le_of_ble_eq_true rfl) (fs_one (⟨_, ff_75_211 s0 H0 oa D⟩))) ?_
  refine fs_c1 (fs_inv_virtual (pc := 42) (n := 8453183) C (Nat.le_of_ble_eq_true rfl) (Nat.le_of_ble_eq_true rfl) (fs_lk_virtual (idx := 92) (y := ⟨"BoardMachine$Integers$IntegerUnit", "jump", "(J)V"⟩) (bytes := prog_69_method_3_code) (maxL := 3) (rt := (Option.none : Option Jvm.ClassFile.FieldType)) (d := 1) C (Nat.le_of_ble_eq_true rfl) (Nat.le_of_ble_eq_true rfl) (by decide +kernel) (kw K hw q2438) (kw K hw q358) (kw K hw q2436) (Or.inl (kw K hw q2435)) ⟨by decide, by decide⟩ rfl (Nat.le_of_ble_eq_true rfl) (Nat.le_of_ble_eq_true rfl) (fs_one (⟨_, rfl, kw K hw q2437⟩))) fs_con_mono o0) ?_
  refine fs_c1 (fs_getf (pc := 46) (n := 889499950) (idx := 21) (ref := "BoardMachine$Processor") (O := "BoardMachine$Processor") (name := "floats") (desc := "LBoardMachine$Floats$FloatUnit;") C (by decide +kernel) (Or.inl (kw K hw q2080)) (fun _ h => h) (Nat.le_of_ble_eq_true rfl) (Nat.le_of_ble_eq_true rfl) (fs_one (⟨_, ff_75_212 s0 H0 oa D⟩))) ?_
  refine fs_c1 (fs_inv_virtual (pc := 50) (n := 75530272) C (Nat.le_of_ble_eq_true rfl) (Nat.le_of_ble_eq_true rfl) (fs_lk_virtual (idx := 96) (y := ⟨"BoardMachine$Floats$FloatUnit", "putFlags", "(I)V"⟩) (bytes := prog_29_method_20_code) (maxL := 2) (rt := (Option.none : Option Jvm.ClassFile.FieldType)) (d := 1) C (Nat.le_of_ble_eq_true rfl) (Nat.le_of_ble_eq_true rfl) (by decide +kernel) (kw K hw q2443) (kw K hw q370) (kw K hw q2441) (Or.inl (kw K hw q2440)) ⟨by decide, by decide⟩ rfl (Nat.le_of_ble_eq_true rfl) (Nat.le_of_ble_eq_true rfl) (fs_one (⟨_, rfl, kw K hw q2442⟩))) fs_con_mono o1) ?_
  refine fs_c1 (fs_getf (pc := 54) (n := 889499950) (idx := 21) (ref := "BoardMachine$Processor") (O := "BoardMachine$Processor") (name := "floats") (desc := "LBoardMachine$Floats$FloatUnit;") C (by decide +kernel) (Or.inl (kw K hw q2080)) (fun _ h => h) (Nat.le_of_ble_eq_true rfl) (Nat.le_of_ble_eq_true rfl) (fs_one (⟨_, ff_75_212 s0 H0 oa D⟩))) ?_
  refine fs_c1 (fs_inv_virtual (pc := 58) (n := 142639136) C (Nat.le_of_ble_eq_true rfl) (Nat.le_of_ble_eq_true rfl) (fs_lk_virtual (idx := 99) (y := ⟨"BoardMachine$Floats$FloatUnit", "putMode", "(I)V"⟩) (bytes := prog_29_method_21_code) (maxL := 2) (rt := (Option.none : Option Jvm.ClassFile.FieldType)) (d := 1) C (Nat.le_of_ble_eq_true rfl) (Nat.le_of_ble_eq_true rfl) (by decide +kernel) (kw K hw q2447) (kw K hw q370) (kw K hw q2445) (Or.inl (kw K hw q2444)) ⟨by decide, by decide⟩ rfl (Nat.le_of_ble_eq_true rfl) (Nat.le_of_ble_eq_true rfl) (fs_one (⟨_, rfl, kw K hw q2446⟩))) fs_con_mono o2) ?_
  refine fs_c1 (fs_getf (pc := 62) (n := 889499950) (idx := 21) (ref := "BoardMachine$Processor") (O := "BoardMachine$Processor") (name := "floats") (desc := "LBoardMachine$Floats$FloatUnit;") C (by decide +kernel) (Or.inl (kw K hw q2080)) (fun _ h => h) (Nat.le_of_ble_eq_true rfl) (Nat.le_of_ble_eq_true rfl) (fs_one (⟨_, ff_75_212 s0 H0 oa D⟩))) ?_
  refine fs_c1 (fs_inv_virtual (pc := 65) (n := 205553696) C (Nat.le_of_ble_eq_true rfl) (Nat.le_of_ble_eq_true rfl) (fs_lk_virtual (idx := 102) (y := ⟨"BoardMachine$Floats$FloatUnit", "calm", "()V"⟩) (bytes := prog_29_method_23_code) (maxL := 1) (rt := (Option.none : Option Jvm.ClassFile.FieldType)) (d := 1) C (Nat.le_of_ble_eq_true rfl) (Nat.le_of_ble_eq_true rfl) (by decide +kernel) (kw K hw q2451) (kw K hw q370) (kw K hw q2449) (Or.inl (kw K hw q2448)) ⟨by decide, by decide⟩ rfl (Nat.le_of_ble_eq_true rfl) (Nat.le_of_ble_eq_true rfl) (fs_one (⟨_, rfl, kw K hw q2450⟩))) fs_con_mono o3) ?_
  refine fs_c1 (fs_inv_virtual (pc := 69) (n := 272706635) C (Nat.le_of_ble_eq_true rfl) (Nat.le_of_ble_eq_true rfl) (fs_lk_virtual (idx := 105) (y := ⟨"BoardMachine$Processor", "resetControls", "()V"⟩) (bytes := prog_86_method_3_code) (maxL := 1) (rt := (Option.none : Option Jvm.ClassFile.FieldType)) (d := 2) C (Nat.le_of_ble_eq_true rfl) (Nat.le_of_ble_eq_true rfl) (by decide +kernel) (kw K hw q2455) (kw K hw q357) (kw K hw q2454) (Or.inl (kw K hw q2452)) ⟨by decide, by decide⟩ rfl (Nat.le_of_ble_eq_true rfl) (Nat.le_of_ble_eq_true rfl) (fs_one (⟨_, rfl, kw K hw qs24⟩))) fs_con_mono o4) ?_
  refine fs_c1 (fs_getf (pc := 73) (n := 897888558) (idx := 75) (ref := "BoardMachine$Processor") (O := "BoardMachine$Processor") (name := "walks") (desc := "LBoardMachine$Walks$Translator;") C (by decide +kernel) (Or.inl (kw K hw q2085)) (fun _ h => h) (Nat.le_of_ble_eq_true rfl) (Nat.le_of_ble_eq_true rfl) (fs_one (⟨_, ff_75_214 s0 H0 oa D⟩))) ?_
  refine fs_c1 (fs_getf (pc := 76) (n := 1208332654) (idx := 108) (ref := "BoardMachine$Walks$Translator") (O := "BoardMachine$Walks$Translator") (name := "regions") (desc := "LBoardMachine$Walks$Regions;") C (by decide +kernel) (Or.inr ⟨_, kF K hw q2021⟩) (fun _ h => h) (Nat.le_of_ble_eq_true rfl) (Nat.le_of_ble_eq_true rfl) (fs_one (⟨_, ff_91_288 s0 H0 oa D⟩))) ?_
  refine fs_c1 (fs_getf (pc := 79) (n := 1191551338) (idx := 112) (ref := "BoardMachine$Walks$Regions") (O := "BoardMachine$Walks$Regions") (name := "all") (desc := "[LBoardMachine$Walks$Region;") C (by decide +kernel) (Or.inr ⟨_, kF K hw q1966⟩) (fun _ h => h) (Nat.le_of_ble_eq_true rfl) (Nat.le_of_ble_eq_true rfl) (fs_one (⟨_, ff_90_284 s0 H0 oa D⟩))) ?_
  refine fs_c1 (fs_putf (pc := 106) (n := 1174770020) (idx := 118) (ref := "BoardMachine$Walks$Region") (O := "BoardMachine$Walks$Region") (name := "config") (desc := "I") (fin := false) (ty := .int) C (by decide +kernel) (Or.inl ⟨rfl, Or.inr ⟨_, kF K hw q1949⟩⟩) (fun _ h => h) (Nat.le_of_ble_eq_true rfl) (Nat.le_of_ble_eq_true rfl) (Nat.le_of_ble_eq_true rfl) rfl rfl (by decide) (fs_one (⟨rfl, ff_89_280 s0 H0 oa D⟩))) ?_
  refine fs_c1 (fs_putf (pc := 112) (n := 1178964325) (idx := 123) (ref := "BoardMachine$Walks$Region") (O := "BoardMachine$Walks$Region") (name := "number") (desc := "J") (fin := false) (ty := .long) C (by decide +kernel) (Or.inl ⟨rfl, Or.inr ⟨_, kF K hw q1952⟩⟩) (fun _ h => h) (Nat.le_of_ble_eq_true rfl) (Nat.le_of_ble_eq_true rfl) (Nat.le_of_ble_eq_true rfl) rfl rfl (by decide) (fs_one (⟨rfl, ff_89_281 s0 H0 oa D⟩))) ?_
  refine fs_c1 (fs_getf (pc := 122) (n := 897888558) (idx := 75) (ref := "BoardMachine$Processor") (O := "BoardMachine$Processor") (name := "walks") (desc := "LBoardMachine$Walks$Translator;") C (by decide +kernel) (Or.inl (kw K hw q2085)) (fun _ h => h) (Nat.le_of_ble_eq_true rfl) (Nat.le_of_ble_eq_true rfl) (fs_one (⟨_, ff_75_214 s0 H0 oa D⟩))) ?_
  refine fs_c1 (fs_getf (pc := 125) (n := 1208332654) (idx := 108) (ref := "BoardMachine$Walks$Translator") (O := "BoardMachine$Walks$Translator") (name := "regions") (desc := "LBoardMachine$Walks$Regions;") C (by decide +kernel) (Or.inr ⟨_, kF K hw q2021⟩) (fun _ h => h) (Nat.le_of_ble_eq_true rfl) (Nat.le_of_ble_eq_true rfl) (fs_one (⟨_, ff_91_288 s0 H0 oa D⟩))) ?_
  refine fs_c1 (fs_inv_virtual (pc := 128) (n := 339830874) C (Nat.le_of_ble_eq_true rfl) (Nat.le_of_ble_eq_true rfl) (fs_lk_virtual (idx := 126) (y := ⟨"BoardMachine$Walks$Regions", "lay", "()V"⟩) (bytes := prog_105_method_2_code) (maxL := 2) (rt := (Option.none : Option Jvm.ClassFile.FieldType)) (d := 3) C (Nat.le_of_ble_eq_true rfl) (Nat.le_of_ble_eq_true rfl) (by decide +kernel) (kw K hw q2467) (kw K hw q397) (kw K hw q2466) (Or.inr ⟨_, kM K hw q2464⟩) ⟨by decide, by decide⟩ rfl (Nat.le_of_ble_eq_true rfl) (Nat.le_of_ble_eq_true rfl) (fs_one (⟨_, rfl, kw K hw qs26⟩))) fs_con_mono o5) ?_
  refine fs_c1 (fs_putf (pc := 133) (n := 914665775) (idx := 129) (ref := "BoardMachine$Processor") (O := "BoardMachine$Processor") (name := "waiting") (desc := "Z") (fin := false) (ty := .boolean) C (by decide +kernel) (Or.inl ⟨rfl, Or.inl (kw K hw q2089)⟩) (fun _ h => h) (Nat.le_of_ble_eq_true rfl) (Nat.le_of_ble_eq_true rfl) (Nat.le_of_ble_eq_true rfl) rfl rfl (by decide) (fs_one (⟨rfl, ff_75_218 s0 H0 oa D⟩))) ?_
  refine fs_c1 (fs_getf (pc := 137) (n := 881111342) (idx := 42) (ref := "BoardMachine$Processor") (O := "BoardMachine$Processor") (name := "board") (desc := "LBoardMachine$Board;") C (by decide +kernel) (Or.inl (kw K hw q2077)) (fun _ h => h) (Nat.le_of_ble_eq_true rfl) (Nat.le_of_ble_eq_true rfl) (fs_one (⟨_, ff_75_210 s0 H0 oa D⟩))) ?_
  refine fs_c1 (fs_getf (pc := 140) (n := 75542574) (idx := 63) (ref := "BoardMachine$Board") (O := "BoardMachine$Board") (name := "ram") (desc := "LBoardMachine$Memories$Ram;") C (by decide +kernel) (Or.inr ⟨_, kF K hw q1037⟩) (fun _ h => h) (Nat.le_of_ble_eq_true rfl) (Nat.le_of_ble_eq_true rfl) (fs_one (⟨_, ff_11_18 s0 H0 oa D⟩))) ?_
  refine fs_c1 (fs_getf (pc := 143) (n := 860131622) (idx := 133) (ref := "BoardMachine$Memories$Ram") (O := "BoardMachine$Memories$Ram") (name := "reservations") (desc := "[LBoardMachine$Memories$Reservation;") C (by decide +kernel) (Or.inr ⟨_, kF K hw q696⟩) (fun _ h => h) (Nat.le_of_ble_eq_true rfl) (Nat.le_of_ble_eq_true rfl) (fs_one (⟨_, ff_73_205 s0 H0 oa D⟩))) ?_
  refine fs_c1 (fs_getf (pc := 147) (n := 876917036) (idx := 38) (ref := "BoardMachine$Processor") (O := "BoardMachine$Processor") (name := "number") (desc := "I") C (by decide +kernel) (Or.inl (kw K hw q2076)) (fun _ h => h) (Nat.le_of_ble_eq_true rfl) (Nat.le_of_ble_eq_true rfl) (fs_one (⟨_, ff_75_209 s0 H0 oa D⟩))) ?_
  refine fs_c1 (fs_inv_virtual (pc := 151) (n := 407971914) C (Nat.le_of_ble_eq_true rfl) (Nat.le_of_ble_eq_true rfl) (fs_lk_virtual (idx := 139) (y := ⟨"BoardMachine$Memories$Reservation", "drop", "()Z"⟩) (bytes := prog_83_method_3_code) (maxL := 2) (rt := (Option.some Jvm.ClassFile.FieldType.boolean)) (d := 1) C (Nat.le_of_ble_eq_true rfl) (Nat.le_of_ble_eq_true rfl) (by decide +kernel) (kw K hw q2496) (kw K hw q322) (kw K hw q2494) (Or.inl (kw K hw q2493)) ⟨by decide, by decide⟩ rfl (Nat.le_of_ble_eq_true rfl) (Nat.le_of_ble_eq_true rfl) (fs_one (⟨_, rfl, kw K hw q2495⟩))) fs_con_mono o6) ?_
  refine fs_c1 (fs_getf (pc := 156) (n := 885305646) (idx := 12) (ref := "BoardMachine$Processor") (O := "BoardMachine$Processor") (name := "integers") (desc := "LBoardMachine$Integers$IntegerUnit;") C (by decide +kernel) (Or.inl (kw K hw q2078)) (fun _ h => h) (Nat.le_of_ble_eq_true rfl) (Nat.le_of_ble_eq_true rfl) (fs_one (⟨_, ff_75_211 s0 H0 oa D⟩))) ?_
  refine fs_c1 (fs_getf (pc := 159) (n := 717484286) (idx := 80) (ref := "BoardMachine$Integers$IntegerUnit") (O := "BoardMachine$Integers$IntegerUnit") (name := "registers") (desc := "LBoardMachine$Integers$Registers;") C (by decide +kernel) (Or.inr ⟨_, kF K hw q1404⟩) (fun _ h => h) (Nat.le_of_ble_eq_true rfl) (Nat.le_of_ble_eq_true rfl) (fs_one (⟨_, ff_63_171 s0 H0 oa D⟩))) ?_
  refine fs_c1 (fs_getf (pc := 165) (n := 876917036) (idx := 38) (ref := "BoardMachine$Processor") (O := "BoardMachine$Processor") (name := "number") (desc := "I") C (by decide +kernel) (Or.inl (kw K hw q2076)) (fun _ h => h) (Nat.le_of_ble_eq_true rfl) (Nat.le_of_ble_eq_true rfl) (fs_one (⟨_, ff_75_209 s0 H0 oa D⟩))) ?_
  refine fs_c1 (fs_inv_virtual (pc := 169) (n := 482410560) C (Nat.le_of_ble_eq_true rfl) (Nat.le_of_ble_eq_true rfl) (fs_lk_virtual (idx := 145) (y := ⟨"BoardMachine$Integers$Registers", "set", "(IJ)V"⟩) (bytes := prog_71_method_2_code) (maxL := 4) (rt := (Option.none : Option Jvm.ClassFile.FieldType)) (d := 1) C (Nat.le_of_ble_eq_true rfl) (Nat.le_of_ble_eq_true rfl) (by decide +kernel) (kw K hw q2500) (kw K hw q359) (kw K hw q2498) (Or.inl (kw K hw q2497)) ⟨by decide, by decide⟩ rfl (Nat.le_of_ble_eq_true rfl) (Nat.le_of_ble_eq_true rfl) (fs_one (⟨_, rfl, kw K hw q2499⟩))) fs_con_mono o7) ?_
  refine fs_c1 (fs_getf (pc := 173) (n := 885305646) (idx := 12) (ref := "BoardMachine$Processor") (O := "BoardMachine$Processor") (name := "integers") (desc := "LBoardMachine$Integers$IntegerUnit;") C (by decide +kernel) (Or.inl (kw K hw q2078)) (fun _ h => h) (Nat.le_of_ble_eq_true rfl) (Nat.le_of_ble_eq_true rfl) (fs_one (⟨_, ff_75_211 s0 H0 oa D⟩))) ?_
  refine fs_c1 (fs_getf (pc := 176) (n := 717484286) (idx := 80) (ref := "BoardMachine$Integers$IntegerUnit") (O := "BoardMachine$Integers$IntegerUnit") (name := "registers") (desc := "LBoardMachine$Integers$Registers;") C (by decide +kernel) (Or.inr ⟨_, kF K hw q1404⟩) (fun _ h => h) (Nat.le_of_ble_eq_true rfl) (Nat.le_of_ble_eq_true rfl) (fs_one (⟨_, ff_63_171 s0 H0 oa D⟩))) ?_
  refine fs_c1 (fs_ldcl (pc := 181) (idx := 149) (v := 2151669760) C (by decide +kernel) (kw K hw q2501)) ?_
  refine fs_c1 (fs_inv_virtual (pc := 184) (n := 482410560) C (Nat.le_of_ble_eq_true rfl) (Nat.le_of_ble_eq_true rfl) (fs_lk_virtual (idx := 145) (y := ⟨"BoardMachine$Integers$Registers", "set", "(IJ)V"⟩) (bytes := prog_71_method_2_code) (maxL := 4) (rt := (Option.none : Option Jvm.ClassFile.FieldType)) (d := 1) C (Nat.le_of_ble_eq_true rfl) (Nat.le_of_ble_eq_true rfl) (by decide +kernel) (kw K hw q2500) (kw K hw q359) (kw K hw q2498) (Or.inl (kw K hw q2497)) ⟨by decide, by decide⟩ rfl (Nat.le_of_ble_eq_true rfl) (Nat.le_of_ble_eq_true rfl) (fs_one (⟨_, rfl, kw K hw q2499⟩))) fs_con_mono o7) ?_
  exact fs_c0
theorem hX2_start (n : Nat) : fe_H (sX2_start (FX4_describe n) FX3_get (FX11_store n) (FX46_reset n)) cX2_start [0, 15, 69] fe_ki [15, 69] 67 (fun j => dX2_start (FX2_start_0 n (FX2_start_L n j).1 (FX2_start_L n j).2) (FX2_start_L n j).1 (FX2_start_L n j).2) := by
  intro j pc L st M r hc h
  rcases fe_mem_c hc with rfl | hc
  · obtain ⟨w0, m0, h⟩ := fe_lR_d h
    obtain ⟨rfl, hz⟩ := fe_t0_d h
    exact ⟨[(0, .ref w0)], (fe_cs m0 fe_nl), Or.inr ((bX2_start_0 (FX4_describe n) FX3_get (FX11_store n) (FX46_reset n) (FX2_start_0 n (FX2_start_L n j).1 (FX2_start_L n j).2) (FX2_start_L n j).1 (FX2_start_L n j).2 w0 M).symm.trans hz)⟩
  rcases fe_mem_c hc with rfl | hc
  · obtain ⟨w0, m0, h⟩ := fe_lR_d h
    obtain ⟨w1, m1, h⟩ := fe_lI_d h
    obtain ⟨w2, m2, h⟩ := fe_lI_d h
    obtain ⟨rfl, hz⟩ := fe_t0_d h
    cases j with
    | zero => exact fe_no hz
    | succ j => exact ⟨[(0, .ref w0), (1, .int w1), (2, .int w2)], (fe_cs m0 (fe_cs m1 (fe_cs m2 fe_nl))), Or.inl ⟨j, rfl, (bX2_start_15 (FX4_describe n) FX3_get (FX11_store n) (FX46_reset n) (FX2_start_0 n (FX2_start_L n j).1 (FX2_start_L n j).2) (FX2_start_L n j).1 (FX2_start_L n j).2 w0 w1 w2 M).symm.trans hz⟩⟩
  rcases fe_mem_c hc with rfl | hc
  · obtain ⟨w0, m0, h⟩ := fe_lR_d h
    obtain ⟨w1, m1, h⟩ := fe_lI_d h
    obtain ⟨w2, m2, h⟩ := fe_lR_d h
    obtain ⟨w3, m3, h⟩ := fe_lI_d h
    obtain ⟨w4, m4, h⟩ := fe_lI_d h
    obtain ⟨rfl, hz⟩ := fe_t0_d h
    cases j with
    | zero => exact fe_no hz
    | succ j => exact ⟨[(0, .ref w0), (1, .int w1), (2, .ref w2), (3, .int w3), (4, .int w4)], (fe_cs m0 (fe_cs m1 (fe_cs m2 (fe_cs m3 (fe_cs m4 fe_nl))))), Or.inl ⟨j, rfl, (bX2_start_69 (FX4_describe n) FX3_get (FX11_store n) (FX46_reset n) (FX2_start_0 n (FX2_start_L n j).1 (FX2_start_L n j).2) (FX2_start_L n j).1 (FX2_start_L n j).2 w0 w1 w2 w3 w4 M).symm.trans hz⟩⟩
  exact fe_mem_0 hc
theorem vX2_start (n : Nat) : fe_SB (sX2_start (FX4_describe n) FX3_get (FX11_store n) (FX46_reset n)) := by
  refine ⟨?_, ?_, ?_, ?_⟩
  · intro i As M r h
    rcases fe_bc h with h | h
    · obtain ⟨v0, t0, rfl, g0⟩ := fe_tR_d h
      obtain ⟨v1, t1, rfl, g1⟩ := fe_tL_d g0
      obtain ⟨v2, t2, rfl, g2⟩ := fe_tI_d g1
      obtain ⟨v3, t3, rfl, g3⟩ := fe_tL_d g2
      obtain ⟨rfl, hz⟩ := fe_t0_d g3
      exact mX11_store n v0 v1 v2 v3 M r hz
    rcases fe_bc h with h | h
    · obtain ⟨v0, t0, rfl, g0⟩ := fe_tR_d h
      obtain ⟨v1, t1, rfl, g1⟩ := fe_tL_d g0
      obtain ⟨rfl, hz⟩ := fe_t0_d g1
      exact mX46_reset n v0 v1 M r hz
    exact fe_no h
  · intro i As M r h
    rcases fe_bc h with h | h
    · obtain ⟨v0, t0, rfl, g0⟩ := fe_tR_d h
      obtain ⟨v1, t1, rfl, g1⟩ := fe_tI_d g0
      obtain ⟨rfl, hz⟩ := fe_t0_d g1
      exact mX4_describe n v0 v1 M r hz
    rcases fe_bc h with h | h
    · obtain ⟨v0, t0, rfl, g0⟩ := fe_tR_d h
      obtain ⟨v1, t1, rfl, g1⟩ := fe_tI_d g0
      obtain ⟨rfl, hz⟩ := fe_t0_d g1
      exact mX3_get v0 v1 M r hz
    exact fe_no h
  · intro i As M r h
    exact fe_no h
  · intro i As M r h
    exact fe_no h
theorem eX2_start (g0 : Nat → FM → Option (Int32 × FM)) (k15 : Nat → Int32 → Int32 → FM → Option (Int32 × FM)) (k69 : Nat → Int32 → Nat → Int32 → Int32 → FM → Option (Int32 × FM)) (a0 : Nat) (M : FM) : dX2_start g0 k15 k69 0 [(0, .ref a0)] [] M = g0 a0 M := by rfl
theorem mX2_start (n : Nat) (a0 : Nat) (M : FM) (r : Int32 × FM) (h : FX2_start n a0 M = some r) : fm_nx M ≤ fm_nx r.2 ∧ fm_ns M ≤ fm_ns r.2 :=
  fe_mono (L0 := [(0, .ref a0)]) (vX2_start n) (by decide +kernel) (hX2_start n) (fe_ki_k r) n rfl ((eX2_start (FX2_start_0 n (FX2_start_L n n).1 (FX2_start_L n n).2) (FX2_start_L n n).1 (FX2_start_L n n).2 a0 M).trans h)
theorem zX2_start {s0 : State} {H0 : Heap} {oa : Nat → Nat} {D : va_G} (K : fk s0 H0 oa D) (l : Launch) (n : Nat) (a0 : Nat) (M : FM) (r : Int32 × FM) (h : FX2_start n a0 M = some r) : fs_Con (fk_E s0 H0 oa D) l 11 ⟨"BoardMachine$Machine", "start", "()I"⟩ prog_76_method_2_code 6 (Option.some Jvm.ClassFile.FieldType.int) [.ref a0] M (some (.int r.1)) r.2 := by
  have o0 : fs_OS (sX2_start (FX4_describe n) FX3_get (FX11_store n) (FX46_reset n)) 0 1 (fs_Con (fk_E s0 H0 oa D) l 10 ⟨"BoardMachine$Describer", "describe", "(I)I"⟩ prog_14_method_17_code 3 (Option.some Jvm.ClassFile.FieldType.int)) := by
    intro As M r h
    obtain ⟨v0, t0, rfl, g0⟩ := fe_tR_d h
    obtain ⟨v1, t1, rfl, g1⟩ := fe_tI_d g0
    obtain ⟨rfl, hz⟩ := fe_t0_d g1
    exact zX4_describe K l n v0 v1 M r hz
  have o1 : fs_OS (sX2_start (FX4_describe n) FX3_get (FX11_store n) (FX46_reset n)) 1 1 (fs_Con (fk_E s0 H0 oa D) l 1 ⟨"BoardMachine$Trees$Row", "get", "(I)I"⟩ prog_100_method_2_code 2 (Option.some Jvm.ClassFile.FieldType.int)) := by
    intro As M r h
    obtain ⟨v0, t0, rfl, g0⟩ := fe_tR_d h
    obtain ⟨v1, t1, rfl, g1⟩ := fe_tI_d g0
    obtain ⟨rfl, hz⟩ := fe_t0_d g1
    exact zX3_get K l v0 v1 M r hz
  have o2 : fs_OS (sX2_start (FX4_describe n) FX3_get (FX11_store n) (FX46_reset n)) 2 0 (fs_Con (fk_E s0 H0 oa D) l 3 ⟨"BoardMachine$Memories$Ram", "store", "(JIJ)V"⟩ prog_82_method_8_code 9 (Option.none : Option Jvm.ClassFile.FieldType)) := by
    intro As M r h
    obtain ⟨v0, t0, rfl, g0⟩ := fe_tR_d h
    obtain ⟨v1, t1, rfl, g1⟩ := fe_tL_d g0
    obtain ⟨v2, t2, rfl, g2⟩ := fe_tI_d g1
    obtain ⟨v3, t3, rfl, g3⟩ := fe_tL_d g2
    obtain ⟨rfl, hz⟩ := fe_t0_d g3
    exact zX11_store K l n v0 v1 v2 v3 M r hz
  have o3 : fs_OS (sX2_start (FX4_describe n) FX3_get (FX11_store n) (FX46_reset n)) 3 0 (fs_Con (fk_E s0 H0 oa D) l 4 ⟨"BoardMachine$Processor", "reset", "(J)V"⟩ prog_86_method_2_code 7 (Option.none : Option Jvm.ClassFile.FieldType)) := by
    intro As M r h
    obtain ⟨v0, t0, rfl, g0⟩ := fe_tR_d h
    obtain ⟨v1, t1, rfl, g1⟩ := fe_tL_d g0
    obtain ⟨rfl, hz⟩ := fe_t0_d g1
    exact zX46_reset K l n v0 v1 M r hz
  refine fs_method (own := "BoardMachine$Machine") rfl (by decide) K.2.1 (by rw [fe_slen]; exact (Nat.le_of_ble_eq_true rfl)) (mX2_start n a0 M r h) (hX2_start n) n rfl (L0 := [(0, .ref a0)]) (fun E => fe_args_e E [.ref a0] 0) ((eX2_start (FX2_start_0 n (FX2_start_L n n).1 (FX2_start_L n n).2) (FX2_start_L n n).1 (FX2_start_L n n).2 a0 M).trans h) (fe_ki_k r) (fun H hR => fs_nr_o (by decide) (by decide)) ?_
  intro p e s m args below meth c Q C hnm
  have hw : s0.WarmedH s.vm := C.2.2.2.2.1
  refine fe_all C fk_hwr cX2_start [1, 5, 9, 21, 24, 27, 35, 38, 41, 45, 49, 59, 84, 87, 90, 100, 104, 108, 112] (by decide +kernel) (fe_fil (cps := [(1, 4, .getfield 809775374), (5, 8, .getfield 797192462), (9, 12, .invokevirtual 9458709), (21, 24, .getfield 792998158), (24, 27, .getfield 75542574), (27, 30, .jsr_w (2151669760)), (35, 38, .getfield 809775374), (38, 41, .getfield 239161430), (41, 44, .getfield 1074086226), (45, 48, .invokevirtual 76634198), (49, 52, .invokevirtual 151069769), (59, 62, .getfield 797192462), (84, 87, .getfield 805581070), (87, 90, .getfield 788799753), (90, 93, .invokevirtual 209792075), (100, 103, .getfield 792998158), (104, 107, .putfield 92319791), (108, 111, .getfield 792998158), (112, 115, .putfield 96514092)]) (by decide +kernel) ?_)
  refine fs_c1 (fs_getf (pc := 1) (n := 809775374) (idx := 24) (ref := "BoardMachine$Machine") (O := "BoardMachine$Machine") (name := "describer") (desc := "LBoardMachine$Describer;") C (by decide +kernel) (Or.inl (kw K hw q2509)) (fun _ h => h) (Nat.le_of_ble_eq_true rfl) (Nat.le_of_ble_eq_true rfl) (fs_one (⟨_, ff_67_193 s0 H0 oa D⟩))) ?_
  refine fs_c1 (fs_getf (pc := 5) (n := 797192462) (idx := 41) (ref := "BoardMachine$Machine") (O := "BoardMachine$Machine") (name := "processors") (desc := "[LBoardMachine$Processor;") C (by decide +kernel) (Or.inl (kw K hw q2504)) (fun _ h => h) (Nat.le_of_ble_eq_true rfl) (Nat.le_of_ble_eq_true rfl) (fs_one (⟨_, ff_67_190 s0 H0 oa D⟩))) ?_
  refine fs_c1 (fs_inv_virtual (pc := 9) (n := 9458709) C (Nat.le_of_ble_eq_true rfl) (Nat.le_of_ble_eq_true rfl) (fs_lk_virtual (idx := 68) (y := ⟨"BoardMachine$Describer", "describe", "(I)I"⟩) (bytes := prog_14_method_17_code) (maxL := 3) (rt := (Option.some Jvm.ClassFile.FieldType.int)) (d := 10) C (Nat.le_of_ble_eq_true rfl) (Nat.le_of_ble_eq_true rfl) (by decide +kernel) (kw K hw q2146) (kw K hw q314) (kw K hw q2144) (Or.inl (kw K hw q2143)) ⟨by decide, by decide⟩ rfl (Nat.le_of_ble_eq_true rfl) (Nat.le_of_ble_eq_true rfl) (fs_one (⟨_, rfl, kw K hw q2145⟩))) fs_con_mono o0) ?_
  refine fs_c1 (fs_getf (pc := 21) (n := 792998158) (idx := 35) (ref := "BoardMachine$Machine") (O := "BoardMachine$Machine") (name := "board") (desc := "LBoardMachine$Board;") C (by decide +kernel) (Or.inl (kw K hw q2502)) (fun _ h => h) (Nat.le_of_ble_eq_true rfl) (Nat.le_of_ble_eq_true rfl) (fs_one (⟨_, ff_67_189 s0 H0 oa D⟩))) ?_
  refine fs_c1 (fs_getf (pc := 24) (n := 75542574) (idx := 53) (ref := "BoardMachine$Board") (O := "BoardMachine$Board") (name := "ram") (desc := "LBoardMachine$Memories$Ram;") C (by decide +kernel) (Or.inr ⟨_, kF K hw q1038⟩) (fun _ h => h) (Nat.le_of_ble_eq_true rfl) (Nat.le_of_ble_eq_true rfl) (fs_one (⟨_, ff_11_18 s0 H0 oa D⟩))) ?_
  refine fs_c1 (fs_ldcl (pc := 27) (idx := 72) (v := 2151669760) C (by decide +kernel) (kw K hw q2383)) ?_
  refine fs_c1 (fs_getf (pc := 35) (n := 809775374) (idx := 24) (ref := "BoardMachine$Machine") (O := "BoardMachine$Machine") (name := "describer") (desc := "LBoardMachine$Describer;") C (by decide +kernel) (Or.inl (kw K hw q2509)) (fun _ h => h) (Nat.le_of_ble_eq_true rfl) (Nat.le_of_ble_eq_true rfl) (fs_one (⟨_, ff_67_193 s0 H0 oa D⟩))) ?_
  refine fs_c1 (fs_getf (pc := 38) (n := 239161430) (idx := 74) (ref := "BoardMachine$Describer") (O := "BoardMachine$Describer") (name := "press") (desc := "LBoardMachine$Trees$Press;") C (by decide +kernel) (Or.inr ⟨_, kF K hw q610⟩) (fun _ h => h) (Nat.le_of_ble_eq_true rfl) (Nat.le_of_ble_eq_true rfl) (fs_one (⟨_, ff_21_57 s0 H0 oa D⟩))) ?_
  refine fs_c1 (fs_getf (pc := 41) (n := 1074086226) (idx := 78) (ref := "BoardMachine$Trees$Press") (O := "BoardMachine$Trees$Press") (name := "out") (desc := "LBoardMachine$Trees$Row;") C (by decide +kernel) (Or.inr ⟨_, kF K hw q600⟩) (fun _ h => h) (Nat.le_of_ble_eq_true rfl) (Nat.le_of_ble_eq_true rfl) (fs_one (⟨_, ff_84_256 s0 H0 oa D⟩))) ?_
  refine fs_c1 (fs_inv_virtual (pc := 45) (n := 76634198) C (Nat.le_of_ble_eq_true rfl) (Nat.le_of_ble_eq_true rfl) (fs_lk_virtual (idx := 83) (y := ⟨"BoardMachine$Trees$Row", "get", "(I)I"⟩) (bytes := prog_100_method_2_code) (maxL := 2) (rt := (Option.some Jvm.ClassFile.FieldType.int)) (d := 1) C (Nat.le_of_ble_eq_true rfl) (Nat.le_of_ble_eq_true rfl) (by decide +kernel) (kw K hw q2369) (kw K hw q313) (kw K hw q2367) (Or.inl (kw K hw q2384)) ⟨by decide, by decide⟩ rfl (Nat.le_of_ble_eq_true rfl) (Nat.le_of_ble_eq_true rfl) (fs_one (⟨_, rfl, kw K hw q2368⟩))) fs_con_mono o1) ?_
  refine fs_c1 (fs_inv_virtual (pc := 49) (n := 151069769) C (Nat.le_of_ble_eq_true rfl) (Nat.le_of_ble_eq_true rfl) (fs_lk_virtual (idx := 86) (y := ⟨"BoardMachine$Memories$Ram", "store", "(JIJ)V"⟩) (bytes := prog_82_method_8_code) (maxL := 9) (rt := (Option.none : Option Jvm.ClassFile.FieldType)) (d := 3) C (Nat.le_of_ble_eq_true rfl) (Nat.le_of_ble_eq_true rfl) (by decide +kernel) (kw K hw q2388) (kw K hw q321) (kw K hw q2386) (Or.inl (kw K hw q2385)) ⟨by decide, by decide⟩ rfl (Nat.le_of_ble_eq_true rfl) (Nat.le_of_ble_eq_true rfl) (fs_one (⟨_, rfl, kw K hw q2387⟩))) fs_con_mono o2) ?_
  refine fs_c1 (fs_getf (pc := 59) (n := 797192462) (idx := 41) (ref := "BoardMachine$Machine") (O := "BoardMachine$Machine") (name := "processors") (desc := "[LBoardMachine$Processor;") C (by decide +kernel) (Or.inl (kw K hw q2504)) (fun _ h => h) (Nat.le_of_ble_eq_true rfl) (Nat.le_of_ble_eq_true rfl) (fs_one (⟨_, ff_67_190 s0 H0 oa D⟩))) ?_
  refine fs_c1 (fs_getf (pc := 84) (n := 805581070) (idx := 60) (ref := "BoardMachine$Machine") (O := "BoardMachine$Machine") (name := "loader") (desc := "LBoardMachine$Loader;") C (by decide +kernel) (Or.inl (kw K hw q2508)) (fun _ h => h) (Nat.le_of_ble_eq_true rfl) (Nat.le_of_ble_eq_true rfl) (fs_one (⟨_, ff_67_192 s0 H0 oa D⟩))) ?_
  refine fs_c1 (fs_getf (pc := 87) (n := 788799753) (idx := 92) (ref := "BoardMachine$Loader") (O := "BoardMachine$Loader") (name := "entry") (desc := "J") C (by decide +kernel) (Or.inr ⟨_, kF K hw q2131⟩) (fun _ h => h) (Nat.le_of_ble_eq_true rfl) (Nat.le_of_ble_eq_true rfl) (fs_one (⟨_, ff_66_188 s0 H0 oa D⟩))) ?_
  refine fs_c1 (fs_inv_virtual (pc := 90) (n := 209792075) C (Nat.le_of_ble_eq_true rfl) (Nat.le_of_ble_eq_true rfl) (fs_lk_virtual (idx := 96) (y := ⟨"BoardMachine$Processor", "reset", "(J)V"⟩) (bytes := prog_86_method_2_code) (maxL := 7) (rt := (Option.none : Option Jvm.ClassFile.FieldType)) (d := 4) C (Nat.le_of_ble_eq_true rfl) (Nat.le_of_ble_eq_true rfl) (by decide +kernel) (kw K hw q2434) (kw K hw q357) (kw K hw q2432) (Or.inl (kw K hw q2431)) ⟨by decide, by decide⟩ rfl (Nat.le_of_ble_eq_true rfl) (Nat.le_of_ble_eq_true rfl) (fs_one (⟨_, rfl, kw K hw q2433⟩))) fs_con_mono o3) ?_
  refine fs_c1 (fs_getf (pc := 100) (n := 792998158) (idx := 35) (ref := "BoardMachine$Machine") (O := "BoardMachine$Machine") (name := "board") (desc := "LBoardMachine$Board;") C (by decide +kernel) (Or.inl (kw K hw q2502)) (fun _ h => h) (Nat.le_of_ble_eq_true rfl) (Nat.le_of_ble_eq_true rfl) (fs_one (⟨_, ff_67_189 s0 H0 oa D⟩))) ?_
  refine fs_c1 (fs_putf (pc := 104) (n := 92319791) (idx := 100) (ref := "BoardMachine$Board") (O := "BoardMachine$Board") (name := "ended") (desc := "Z") (fin := false) (ty := .boolean) C (by decide +kernel) (Or.inl ⟨rfl, Or.inr ⟨_, kF K hw q1049⟩⟩) (fun _ h => h) (Nat.le_of_ble_eq_true rfl) (Nat.le_of_ble_eq_true rfl) (Nat.le_of_ble_eq_true rfl) rfl rfl (by decide) (fs_one (⟨rfl, ff_11_22 s0 H0 oa D⟩))) ?_
  refine fs_c1 (fs_getf (pc := 108) (n := 792998158) (idx := 35) (ref := "BoardMachine$Machine") (O := "BoardMachine$Machine") (name := "board") (desc := "LBoardMachine$Board;") C (by decide +kernel) (Or.inl (kw K hw q2502)) (fun _ h => h) (Nat.le_of_ble_eq_true rfl) (Nat.le_of_ble_eq_true rfl) (fs_one (⟨_, ff_67_189 s0 H0 oa D⟩))) ?_
  refine fs_c1 (fs_putf (pc := 112) (n := 96514092) (idx := 104) (ref := "BoardMachine$Board") (O := "BoardMachine$Board") (name := "code") (desc := "I") (fin := false) (ty := .int) C (by decide +kernel) (Or.inl ⟨rfl, Or.inr ⟨_, kF K hw q1052⟩⟩) (fun _ h => h) (Nat.le_of_ble_eq_true rfl) (Nat.le_of_ble_eq_true rfl) (Nat.le_of_ble_eq_true rfl) rfl rfl (by decide) (fs_one (⟨rfl, ff_11_23 s0 H0 oa D⟩))) ?_
  exact fs_c0
