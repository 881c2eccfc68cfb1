/-! contracts of methods, printed by gen/snd.py -/
set_option maxRecDepth 100000
set_option maxHeartbeats 4000000
theorem hX0_cell : fe_H (sX0_cell) cX0_cell [0, 13] fe_ki [] 20 (fun _ => dX0_cell FX0_cell_0 FX0_cell_13) := by
  intro j pc L st M r hc h
  rcases fe_mem_c hc with rfl | hc
  · obtain ⟨w0, m0, h⟩ := fe_lR_d h
    obtain ⟨w1, m1, h⟩ := fe_lI_d h
    obtain ⟨rfl, hz⟩ := fe_t0_d h
    exact ⟨[(0, .ref w0), (1, .int w1)], (fe_cs m0 (fe_cs m1 fe_nl)), Or.inr ((bX0_cell_0 FX0_cell_0 FX0_cell_13 w0 w1 M).symm.trans hz)⟩
  rcases fe_mem_c hc with rfl | hc
  · obtain ⟨s0, t0, rfl, g0⟩ := fe_tI_d h
    obtain ⟨rfl, hz⟩ := fe_t0_d g0
    exact ⟨[], fe_nl, Or.inr ((bX0_cell_13 FX0_cell_0 FX0_cell_13 s0 M).symm.trans hz)⟩
  exact fe_mem_0 hc
theorem vX0_cell : fe_SB (sX0_cell) := by
  refine ⟨?_, ?_, ?_, ?_⟩
  · intro i As M r h
    exact fe_no h
  · intro i As M r h
    exact fe_no h
  · intro i As M r h
    exact fe_no h
  · intro i As M r h
    exact fe_no h
theorem eX0_cell (g0 : Nat → Int32 → FM → Option (Int32 × FM)) (g13 : Int32 → FM → Option (Int32 × FM)) (a0 : Nat) (a1 : Int32) (M : FM) : dX0_cell g0 g13 0 [(0, .ref a0), (1, .int a1)] [] M = g0 a0 a1 M := by rfl
theorem mX0_cell (a0 : Nat) (a1 : Int32) (M : FM) (r : Int32 × FM) (h : FX0_cell a0 a1 M = some r) : fm_nx M ≤ fm_nx r.2 ∧ fm_ns M ≤ fm_ns r.2 :=
  fe_mono (L0 := [(0, .ref a0), (1, .int a1)]) (vX0_cell) (by decide +kernel) (hX0_cell) (fe_ki_k r) 0 rfl ((eX0_cell FX0_cell_0 FX0_cell_13 a0 a1 M).trans h)
theorem zX0_cell {s0 : State} {H0 : Heap} {oa : Nat → Nat} {D : va_G} (K : fk s0 H0 oa D) (l : Launch) (a0 : Nat) (a1 : Int32) (M : FM) (r : Int32 × FM) (h : FX0_cell a0 a1 M = some r) : fs_Con (fk_E s0 H0 oa D) l 1 ⟨"BoardMachineLaw", "cell", "([II)I"⟩ method_2_code 2 (Option.some Jvm.ClassFile.FieldType.int) [.ref a0, .int a1] M (some (.int r.1)) r.2 := by
  refine fs_method (own := "BoardMachineLaw") rfl (by decide) K.2.1 (by rw [fe_slen]; exact (Nat.le_of_ble_eq_true rfl)) (mX0_cell a0 a1 M r h) (hX0_cell) 0 rfl (L0 := [(0, .ref a0), (1, .int a1)]) (fun E => fe_args_e E [.ref a0, .int a1] 0) ((eX0_cell FX0_cell_0 FX0_cell_13 a0 a1 M).trans h) (fe_ki_k r) (fun H hR => fs_nr_o (by decide) (by decide)) ?_
  intro p e s m args below meth c Q C hnm
  have hw : s0.WarmedH s.vm := C.2.2.2.2.1
  refine fe_all C fk_hwr cX0_cell [] (by decide +kernel) (fe_fil (cps := []) (by decide +kernel) ?_)
  exact fs_c0
theorem hX3_init : fe_H (sX3_init) cX3_init [0] fe_kv [] 20 (fun _ => dX3_init FX3_init_0) := by
  intro j pc L st M r hc h
  rcases fe_mem_c hc with rfl | hc
  · obtain ⟨w0, m0, h⟩ := fe_lR_d h
    obtain ⟨w1, m1, h⟩ := fe_lI_d h
    obtain ⟨rfl, hz⟩ := fe_t0_d h
    exact ⟨[(0, .ref w0), (1, .int w1)], (fe_cs m0 (fe_cs m1 fe_nl)), Or.inr ((bX3_init_0 FX3_init_0 w0 w1 M).symm.trans hz)⟩
  exact fe_mem_0 hc
theorem vX3_init : fe_SB (sX3_init) := by
  refine ⟨?_, ?_, ?_, ?_⟩
  · intro i As M r h
    exact fe_no h
  · intro i As M r h
    exact fe_no h
  · intro i As M r h
    exact fe_no h
  · intro i As M r h
    exact fe_no h
theorem eX3_init (g0 : Nat → Int32 → FM → Option (FM)) (a0 : Nat) (a1 : Int32) (M : FM) : dX3_init g0 0 [(0, .ref a0), (1, .int a1)] [] M = g0 a0 a1 M := by rfl
theorem mX3_init (a0 : Nat) (a1 : Int32) (M : FM) (r : FM) (h : FX3_init a0 a1 M = some r) : fm_nx M ≤ fm_nx r ∧ fm_ns M ≤ fm_ns r :=
  fe_mono (L0 := [(0, .ref a0), (1, .int a1)]) (vX3_init) (by decide +kernel) (hX3_init) (fe_kv_k r) 0 rfl ((eX3_init FX3_init_0 a0 a1 M).trans h)
theorem zX3_init {s0 : State} {H0 : Heap} {oa : Nat → Nat} {D : va_G} (K : fk s0 H0 oa D) (l : Launch) (a0 : Nat) (a1 : Int32) (M : FM) (r : FM) (h : FX3_init a0 a1 M = some r) : fs_Con (fk_E s0 H0 oa D) l 1 ⟨"BoardMachine$Trees$Row", "<init>", "(I)V"⟩ prog_100_method_1_code 2 (Option.none : Option Jvm.ClassFile.FieldType) [.ref a0, .int a1] M none r := by
  refine fs_method (own := "BoardMachine$Trees$Row") rfl (by decide) K.2.1 (by rw [fe_slen]; exact (Nat.le_of_ble_eq_true rfl)) (mX3_init a0 a1 M r h) (hX3_init) 0 rfl (L0 := [(0, .ref a0), (1, .int a1)]) (fun E => fe_args_e E [.ref a0, .int a1] 0) ((eX3_init FX3_init_0 a0 a1 M).trans h) (fe_kv_k r) (fun H hR => fs_nr_o (by decide) (by decide)) ?_
  intro p e s m args below meth c Q C hnm
  have hw : s0.WarmedH s.vm := C.2.2.2.2.1
  refine fe_all C fk_hwr cX3_init [1, 6, 8] (by decide +kernel) (fe_fil (cps := [(1, 4, .monitorenter), (6, 8, .anewarray 268167), (8, 11, .putfield 1095065946)]) (by decide +kernel) ?_)
  refine fs_c1 (fs_init (pc := 1) (idx := 1) C (by decide +kernel) (kw K hw q455) (kw K hw q441) (kw K hw q442) ⟨(Nat.le_of_ble_eq_true rfl), (Nat.le_of_ble_eq_true rfl)⟩) ?_
  refine fs_c1 (fs_newB (pc := 6) (n := 268167) C (by decide +kernel) (kw K hw q471) rfl rfl) ?_
  refine fs_c1 (fs_putf (pc := 8) (n := 1095065946) (idx := 7) (ref := "BoardMachine$Trees$Row") (O := "BoardMachine$Trees$Row") (name := "bytes") (desc := "[B") (fin := true) (ty := (.array .byte)) C (by decide +kernel) (Or.inr ⟨rfl, kw K hw q456, hnm, rfl⟩) (fun _ h => h) (Nat.le_of_ble_eq_true rfl) (Nat.le_of_ble_eq_true rfl) (Nat.le_of_ble_eq_true rfl) rfl rfl (by decide) (fs_one (⟨rfl, ff_86_261 s0 H0 oa D⟩))) ?_
  exact fs_c0
theorem hX7_init : fe_H (sX7_init) cX7_init [0] fe_kv [] 20 (fun _ => dX7_init FX7_init_0) := by
  intro j pc L st M r hc h
  rcases fe_mem_c hc with rfl | hc
  · obtain ⟨w0, m0, h⟩ := fe_lR_d h
    obtain ⟨rfl, hz⟩ := fe_t0_d h
    exact ⟨[(0, .ref w0)], (fe_cs m0 fe_nl), Or.inr ((bX7_init_0 FX7_init_0 w0 M).symm.trans hz)⟩
  exact fe_mem_0 hc
theorem vX7_init : fe_SB (sX7_init) := by
  refine ⟨?_, ?_, ?_, ?_⟩
  · intro i As M r h
    exact fe_no h
  · intro i As M r h
    exact fe_no h
  · intro i As M r h
    exact fe_no h
  · intro i As M r h
    exact fe_no h
theorem eX7_init (g0 : Nat → FM → Option (FM)) (a0 : Nat) (M : FM) : dX7_init g0 0 [(0, .ref a0)] [] M = g0 a0 M := by rfl
theorem mX7_init (a0 : Nat) (M : FM) (r : FM) (h : FX7_init a0 M = some r) : fm_nx M ≤ fm_nx r ∧ fm_ns M ≤ fm_ns r :=
  fe_mono (L0 := [(0, .ref a0)]) (vX7_init) (by decide +kernel) (hX7_init) (fe_kv_k r) 0 rfl ((eX7_init FX7_init_0 a0 M).trans h)
theorem zX7_init {s0 : State} {H0 : Heap} {oa : Nat → Nat} {D : va_G} (K : fk s0 H0 oa D) (l : Launch) (a0 : Nat) (M : FM) (r : FM) (h : FX7_init a0 M = some r) : fs_Con (fk_E s0 H0 oa D) l 1 ⟨"BoardMachine$Trees$Piece", "<init>", "()V"⟩ prog_97_method_1_code 1 (Option.none : Option Jvm.ClassFile.FieldType) [.ref a0] M none r := by
  refine fs_method (own := "BoardMachine$Trees$Piece") rfl (by decide) K.2.1 (by rw [fe_slen]; exact (Nat.le_of_ble_eq_true rfl)) (mX7_init a0 M r h) (hX7_init) 0 rfl (L0 := [(0, .ref a0)]) (fun E => fe_args_e E [.ref a0] 0) ((eX7_init FX7_init_0 a0 M).trans h) (fe_kv_k r) (fun H hR => fs_nr_o (by decide) (by decide)) ?_
  intro p e s m args below meth c Q C hnm
  have hw : s0.WarmedH s.vm := C.2.2.2.2.1
  refine fe_all C fk_hwr cX7_init [1] (by decide +kernel) (fe_fil (cps := [(1, 4, .monitorenter)]) (by decide +kernel) ?_)
  refine fs_c1 (fs_init (pc := 1) (idx := 1) C (by decide +kernel) (kw K hw q502) (kw K hw q441) (kw K hw q442) ⟨(Nat.le_of_ble_eq_true rfl), (Nat.le_of_ble_eq_true rfl)⟩) ?_
  exact fs_c0
theorem hX6_init : fe_H (sX6_init FX7_init) cX6_init [0] fe_kv [] 20 (fun _ => dX6_init FX6_init_0) := by
  intro j pc L st M r hc h
  rcases fe_mem_c hc with rfl | hc
  · obtain ⟨w0, m0, h⟩ := fe_lR_d h
    obtain ⟨rfl, hz⟩ := fe_t0_d h
    exact ⟨[(0, .ref w0)], (fe_cs m0 fe_nl), Or.inr ((bX6_init_0 FX7_init FX6_init_0 w0 M).symm.trans hz)⟩
  exact fe_mem_0 hc
theorem vX6_init : fe_SB (sX6_init FX7_init) := by
  refine ⟨?_, ?_, ?_, ?_⟩
  · intro i As M r h
    rcases fe_bc h with h | h
    · obtain ⟨v0, t0, rfl, g0⟩ := fe_tR_d h
      obtain ⟨rfl, hz⟩ := fe_t0_d g0
      exact mX7_init v0 M r hz
    exact fe_no h
  · intro i As M r h
    exact fe_no h
  · intro i As M r h
    exact fe_no h
  · intro i As M r h
    exact fe_no h
theorem eX6_init (g0 : Nat → FM → Option (FM)) (a0 : Nat) (M : FM) : dX6_init g0 0 [(0, .ref a0)] [] M = g0 a0 M := by rfl
theorem mX6_init (a0 : Nat) (M : FM) (r : FM) (h : FX6_init a0 M = some r) : fm_nx M ≤ fm_nx r ∧ fm_ns M ≤ fm_ns r :=
  fe_mono (L0 := [(0, .ref a0)]) (vX6_init) (by decide +kernel) (hX6_init) (fe_kv_k r) 0 rfl ((eX6_init FX6_init_0 a0 M).trans h)
theorem zX6_init {s0 : State} {H0 : Heap} {oa : Nat → Nat} {D : va_G} (K : fk s0 H0 oa D) (l : Launch) (a0 : Nat) (M : FM) (r : FM) (h : FX6_init a0 M = some r) : fs_Con (fk_E s0 H0 oa D) l 2 ⟨"BoardMachine$Trees$Node", "<init>", "()V"⟩ prog_96_method_1_code 1 (Option.none : Option Jvm.ClassFile.FieldType) [.ref a0] M none r := by
  have o0 : fs_OS (sX6_init FX7_init) 0 0 (fs_Con (fk_E s0 H0 oa D) l 1 ⟨"BoardMachine$Trees$Piece", "<init>", "()V"⟩ prog_97_method_1_code 1 (Option.none : Option Jvm.ClassFile.FieldType)) := by
    intro As M r h
    obtain ⟨v0, t0, rfl, g0⟩ := fe_tR_d h
    obtain ⟨rfl, hz⟩ := fe_t0_d g0
    exact zX7_init K l v0 M r hz
  refine fs_method (own := "BoardMachine$Trees$Node") rfl (by decide) K.2.1 (by rw [fe_slen]; exact (Nat.le_of_ble_eq_true rfl)) (mX6_init a0 M r h) (hX6_init) 0 rfl (L0 := [(0, .ref a0)]) (fun E => fe_args_e E [.ref a0] 0) ((eX6_init FX6_init_0 a0 M).trans h) (fe_kv_k r) (fun H hR => fs_nr_o (by decide) (by decide)) ?_
  intro p e s m args below meth c Q C hnm
  have hw : s0.WarmedH s.vm := C.2.2.2.2.1
  refine fe_all C fk_hwr cX6_init [1, 5, 9, 12] (by decide +kernel) (fe_fil (cps := [(1, 4, .monitorenter), (5, 8, .new 5314), (9, 12, .invokevirtual 4279379), (12, 15, .putfield 1040523594)]) (by decide +kernel) ?_)
  refine fs_c1 (fs_init (pc := 1) (idx := 1) C (by decide +kernel) (kw K hw q496) (kw K hw q441) (kw K hw q442) ⟨(Nat.le_of_ble_eq_true rfl), (Nat.le_of_ble_eq_true rfl)⟩) ?_
  refine fs_c1 (fs_newo (pc := 5) (n := 5314) (idx := 7) (CC := "BoardMachine$Trees$Piece") (T := fT_83) (N := 2) C (by decide +kernel) (kw K hw q497) (kw K hw q498) (kw K hw q317) (by decide) (Nat.le_of_ble_eq_true rfl) rfl rfl) ?_
  refine fs_c1 (fs_inv_virtual (pc := 9) (n := 4279379) C (Nat.le_of_ble_eq_true rfl) (Nat.le_of_ble_eq_true rfl) (fs_lk_init (idx := 9) (y := ⟨"BoardMachine$Trees$Piece", "<init>", "()V"⟩) (bytes := prog_97_method_1_code) (maxL := 1) (d := 1) C (Nat.le_of_ble_eq_true rfl) (Nat.le_of_ble_eq_true rfl) (by decide +kernel) (kw K hw q501) (kw K hw q317) (kw K hw q500) (Or.inr ⟨_, kM K hw q499⟩) rfl ⟨by decide, by decide⟩ rfl (Nat.le_of_ble_eq_true rfl) (Nat.le_of_ble_eq_true rfl)) fs_con_mono o0) ?_
  refine fs_c1 (fs_putf (pc := 12) (n := 1040523594) (idx := 10) (ref := "BoardMachine$Trees$Node") (O := "BoardMachine$Trees$Node") (name := "name") (desc := "LBoardMachine$Trees$Piece;") (fin := true) (ty := (.object "BoardMachine$Trees$Piece")) C (by decide +kernel) (Or.inr ⟨rfl, kw K hw q513, hnm, rfl⟩) (fun _ h => h) (Nat.le_of_ble_eq_true rfl) (Nat.le_of_ble_eq_true rfl) (Nat.le_of_ble_eq_true rfl) rfl rfl (by decide) (fs_one (⟨rfl, ff_82_248 s0 H0 oa D⟩))) ?_
  exact fs_c0
theorem hX5_begin : fe_H (sX5_begin) cX5_begin [0] fe_kv [] 41 (fun _ => dX5_begin FX5_begin_0) := by
  intro j pc L st M r hc h
  rcases fe_mem_c hc with rfl | hc
  · obtain ⟨w0, m0, h⟩ := fe_lR_d h
    obtain ⟨w1, m1, h⟩ := fe_lI_d h
    obtain ⟨w2, m2, h⟩ := fe_lI_d h
    obtain ⟨rfl, hz⟩ := fe_t0_d h
    exact ⟨[(0, .ref w0), (1, .int w1), (2, .int w2)], (fe_cs m0 (fe_cs m1 (fe_cs m2 fe_nl))), Or.inr ((bX5_begin_0 FX5_begin_0 w0 w1 w2 M).symm.trans hz)⟩
  exact fe_mem_0 hc
theorem vX5_begin : fe_SB (sX5_begin) := by
  refine ⟨?_, ?_, ?_, ?_⟩
  · intro i As M r h
    exact fe_no h
  · intro i As M r h
    exact fe_no h
  · intro i As M r h
    exact fe_no h
  · intro i As M r h
    exact fe_no h
theorem eX5_begin (g0 : Nat → Int32 → Int32 → FM → Option (FM)) (a0 : Nat) (a1 : Int32) (a2 : Int32) (M : FM) : dX5_begin g0 0 [(0, .ref a0), (1, .int a1), (2, .int a2)] [] M = g0 a0 a1 a2 M := by rfl
theorem mX5_begin (a0 : Nat) (a1 : Int32) (a2 : Int32) (M : FM) (r : FM) (h : FX5_begin a0 a1 a2 M = some r) : fm_nx M ≤ fm_nx r ∧ fm_ns M ≤ fm_ns r :=
  fe_mono (L0 := [(0, .ref a0), (1, .int a1), (2, .int a2)]) (vX5_begin) (by decide +kernel) (hX5_begin) (fe_kv_k r) 0 rfl ((eX5_begin FX5_begin_0 a0 a1 a2 M).trans h)
theorem zX5_begin {s0 : State} {H0 : Heap} {oa : Nat → Nat} {D : va_G} (K : fk s0 H0 oa D) (l : Launch) (a0 : Nat) (a1 : Int32) (a2 : Int32) (M : FM) (r : FM) (h : FX5_begin a0 a1 a2 M = some r) : fs_Con (fk_E s0 H0 oa D) l 1 ⟨"BoardMachine$Trees$Tree", "begin", "(II)V"⟩ prog_101_method_3_code 4 (Option.none : Option Jvm.ClassFile.FieldType) [.ref a0, .int a1, .int a2] M none r := by
  refine fs_method (own := "BoardMachine$Trees$Tree") rfl (by decide) K.2.1 (by rw [fe_slen]; exact (Nat.le_of_ble_eq_true rfl)) (mX5_begin a0 a1 a2 M r h) (hX5_begin) 0 rfl (L0 := [(0, .ref a0), (1, .int a1), (2, .int a2)]) (fun E => fe_args_e E [.ref a0, .int a1, .int a2] 0) ((eX5_begin FX5_begin_0 a0 a1 a2 M).trans h) (fe_kv_k r) (fun H hR => fs_nr_o (by decide) (by decide)) ?_
  intro p e s m args below meth c Q C hnm
  have hw : s0.WarmedH s.vm := C.2.2.2.2.1
  refine fe_all C fk_hwr cX5_begin [1, 5, 12, 17, 22, 25, 30, 35, 39, 43, 49, 55, 58] (by decide +kernel) (fe_fil (cps := [(1, 4, .getfield 1107652958), (5, 8, .getfield 1116041564), (12, 15, .putfield 1044717896), (17, 20, .putfield 1048912200), (22, 25, .getfield 1120235868), (25, 28, .putfield 1053106504), (30, 33, .putfield 1057300808), (35, 38, .putfield 1061495115), (39, 42, .getfield 1040523594), (43, 46, .putfield 1069887820), (49, 52, .getfield 1116041564), (55, 58, .putfield 1116041564), (58, 61, .putfield 1124430172)]) (by decide +kernel) ?_)
  refine fs_c1 (fs_getf (pc := 1) (n := 1107652958) (idx := 22) (ref := "BoardMachine$Trees$Tree") (O := "BoardMachine$Trees$Tree") (name := "nodes") (desc := "[LBoardMachine$Trees$Node;") C (by decide +kernel) (Or.inl (kw K hw q569)) (fun _ h => h) (Nat.le_of_ble_eq_true rfl) (Nat.le_of_ble_eq_true rfl) (fs_one (⟨_, ff_87_264 s0 H0 oa D⟩))) ?_
  refine fs_c1 (fs_getf (pc := 5) (n := 1116041564) (idx := 41) (ref := "BoardMachine$Trees$Tree") (O := "BoardMachine$Trees$Tree") (name := "nodeCount") (desc := "I") C (by decide +kernel) (Or.inl (kw K hw q573)) (fun _ h => h) (Nat.le_of_ble_eq_true rfl) (Nat.le_of_ble_eq_true rfl) (fs_one (⟨_, ff_87_266 s0 H0 oa D⟩))) ?_
  refine fs_c1 (fs_putf (pc := 12) (n := 1044717896) (idx := 51) (ref := "BoardMachine$Trees$Node") (O := "BoardMachine$Trees$Node") (name := "parent") (desc := "I") (fin := false) (ty := .int) C (by decide +kernel) (Or.inl ⟨rfl, Or.inr ⟨_, kF K hw q516⟩⟩) (fun _ h => h) (Nat.le_of_ble_eq_true rfl) (Nat.le_of_ble_eq_true rfl) (Nat.le_of_ble_eq_true rfl) rfl rfl (by decide) (fs_one (⟨rfl, ff_82_249 s0 H0 oa D⟩))) ?_
  refine fs_c1 (fs_putf (pc := 17) (n := 1048912200) (idx := 54) (ref := "BoardMachine$Trees$Node") (O := "BoardMachine$Trees$Node") (name := "depth") (desc := "I") (fin := false) (ty := .int) C (by decide +kernel) (Or.inl ⟨rfl, Or.inr ⟨_, kF K hw q517⟩⟩) (fun _ h => h) (Nat.le_of_ble_eq_true rfl) (Nat.le_of_ble_eq_true rfl) (Nat.le_of_ble_eq_true rfl) rfl rfl (by decide) (fs_one (⟨rfl, ff_82_250 s0 H0 oa D⟩))) ?_
  refine fs_c1 (fs_getf (pc := 22) (n := 1120235868) (idx := 44) (ref := "BoardMachine$Trees$Tree") (O := "BoardMachine$Trees$Tree") (name := "propertyCount") (desc := "I") C (by decide +kernel) (Or.inl (kw K hw q575)) (fun _ h => h) (Nat.le_of_ble_eq_true rfl) (Nat.le_of_ble_eq_true rfl) (fs_one (⟨_, ff_87_267 s0 H0 oa D⟩))) ?_
  refine fs_c1 (fs_putf (pc := 25) (n := 1053106504) (idx := 57) (ref := "BoardMachine$Trees$Node") (O := "BoardMachine$Trees$Node") (name := "firstProperty") (desc := "I") (fin := false) (ty := .int) C (by decide +kernel) (Or.inl ⟨rfl, Or.inr ⟨_, kF K hw q519⟩⟩) (fun _ h => h) (Nat.le_of_ble_eq_true rfl) (Nat.le_of_ble_eq_true rfl) (Nat.le_of_ble_eq_true rfl) rfl rfl (by decide) (fs_one (⟨rfl, ff_82_251 s0 H0 oa D⟩))) ?_
  refine fs_c1 (fs_putf (pc := 30) (n := 1057300808) (idx := 60) (ref := "BoardMachine$Trees$Node") (O := "BoardMachine$Trees$Node") (name := "properties") (desc := "I") (fin := false) (ty := .int) C (by decide +kernel) (Or.inl ⟨rfl, Or.inr ⟨_, kF K hw q521⟩⟩) (fun _ h => h) (Nat.le_of_ble_eq_true rfl) (Nat.le_of_ble_eq_true rfl) (Nat.le_of_ble_eq_true rfl) rfl rfl (by decide) (fs_one (⟨rfl, ff_82_252 s0 H0 oa D⟩))) ?_
  refine fs_c1 (fs_putf (pc := 35) (n := 1061495115) (idx := 62) (ref := "BoardMachine$Trees$Node") (O := "BoardMachine$Trees$Node") (name := "hasNodes") (desc := "Z") (fin := false) (ty := .boolean) C (by decide +kernel) (Or.inl ⟨rfl, Or.inr ⟨_, kF K hw q523⟩⟩) (fun _ h => h) (Nat.le_of_ble_eq_true rfl) (Nat.le_of_ble_eq_true rfl) (Nat.le_of_ble_eq_true rfl) rfl rfl (by decide) (fs_one (⟨rfl, ff_82_253 s0 H0 oa D⟩))) ?_
  refine fs_c1 (fs_getf (pc := 39) (n := 1040523594) (idx := 66) (ref := "BoardMachine$Trees$Node") (O := "BoardMachine$Trees$Node") (name := "name") (desc := "LBoardMachine$Trees$Piece;") C (by decide +kernel) (Or.inr ⟨_, kF K hw q515⟩) (fun _ h => h) (Nat.le_of_ble_eq_true rfl) (Nat.le_of_ble_eq_true rfl) (fs_one (⟨_, ff_82_248 s0 H0 oa D⟩))) ?_
  refine fs_c1 (fs_putf (pc := 43) (n := 1069887820) (idx := 70) (ref := "BoardMachine$Trees$Piece") (O := "BoardMachine$Trees$Piece") (name := "size") (desc := "I") (fin := false) (ty := .int) C (by decide +kernel) (Or.inl ⟨rfl, Or.inr ⟨_, kF K hw q507⟩⟩) (fun _ h => h) (Nat.le_of_ble_eq_true rfl) (Nat.le_of_ble_eq_true rfl) (Nat.le_of_ble_eq_true rfl) rfl rfl (by decide) (fs_one (⟨rfl, ff_83_255 s0 H0 oa D⟩))) ?_
  refine fs_c1 (fs_getf (pc := 49) (n := 1116041564) (idx := 41) (ref := "BoardMachine$Trees$Tree") (O := "BoardMachine$Trees$Tree") (name := "nodeCount") (desc := "I") C (by decide +kernel) (Or.inl (kw K hw q573)) (fun _ h => h) (Nat.le_of_ble_eq_true rfl) (Nat.le_of_ble_eq_true rfl) (fs_one (⟨_, ff_87_266 s0 H0 oa D⟩))) ?_
  refine fs_c1 (fs_putf (pc := 55) (n := 1116041564) (idx := 41) (ref := "BoardMachine$Trees$Tree") (O := "BoardMachine$Trees$Tree") (name := "nodeCount") (desc := "I") (fin := false) (ty := .int) C (by decide +kernel) (Or.inl ⟨rfl, Or.inl (kw K hw q573)⟩) (fun _ h => h) (Nat.le_of_ble_eq_true rfl) (Nat.le_of_ble_eq_true rfl) (Nat.le_of_ble_eq_true rfl) rfl rfl (by decide) (fs_one (⟨rfl, ff_87_266 s0 H0 oa D⟩))) ?_
  refine fs_c1 (fs_putf (pc := 58) (n := 1124430172) (idx := 73) (ref := "BoardMachine$Trees$Tree") (O := "BoardMachine$Trees$Tree") (name := "place") (desc := "I") (fin := false) (ty := .int) C (by decide +kernel) (Or.inl ⟨rfl, Or.inl (kw K hw q576)⟩) (fun _ h => h) (Nat.le_of_ble_eq_true rfl) (Nat.le_of_ble_eq_true rfl) (Nat.le_of_ble_eq_true rfl) rfl rfl (by decide) (fs_one (⟨rfl, ff_87_268 s0 H0 oa D⟩))) ?_
  exact fs_c0
theorem hX5_clear : fe_H (sX5_clear FX5_begin) cX5_clear [0] fe_kv [] 20 (fun _ => dX5_clear FX5_clear_0) := by
  intro j pc L st M r hc h
  rcases fe_mem_c hc with rfl | hc
  · obtain ⟨w0, m0, h⟩ := fe_lR_d h
    obtain ⟨rfl, hz⟩ := fe_t0_d h
    exact ⟨[(0, .ref w0)], (fe_cs m0 fe_nl), Or.inr ((bX5_clear_0 FX5_begin FX5_clear_0 w0 M).symm.trans hz)⟩
  exact fe_mem_0 hc
theorem vX5_clear : fe_SB (sX5_clear FX5_begin) := by
  refine ⟨?_, ?_, ?_, ?_⟩
  · intro i As M r h
    rcases fe_bc h with h | h
    · obtain ⟨v0, t0, rfl, g0⟩ := fe_tR_d h
      obtain ⟨v1, t1, rfl, g1⟩ := fe_tI_d g0
      obtain ⟨v2, t2, rfl, g2⟩ := fe_tI_d g1
      obtain ⟨rfl, hz⟩ := fe_t0_d g2
      exact mX5_begin v0 v1 v2 M r hz
    exact fe_no h
  · intro i As M r h
    exact fe_no h
  · intro i As M r h
    exact fe_no h
  · intro i As M r h
    exact fe_no h
theorem eX5_clear (g0 : Nat → FM → Option (FM)) (a0 : Nat) (M : FM) : dX5_clear g0 0 [(0, .ref a0)] [] M = g0 a0 M := by rfl
theorem mX5_clear (a0 : Nat) (M : FM) (r : FM) (h : FX5_clear a0 M = some r) : fm_nx M ≤ fm_nx r ∧ fm_ns M ≤ fm_ns r :=
  fe_mono (L0 := [(0, .ref a0)]) (vX5_clear) (by decide +kernel) (hX5_clear) (fe_kv_k r) 0 rfl ((eX5_clear FX5_clear_0 a0 M).trans h)
theorem zX5_clear {s0 : State} {H0 : Heap} {oa : Nat → Nat} {D : va_G} (K : fk s0 H0 oa D) (l : Launch) (a0 : Nat) (M : FM) (r : FM) (h : FX5_clear a0 M = some r) : fs_Con (fk_E s0 H0 oa D) l 2 ⟨"BoardMachine$Trees$Tree", "clear", "()V"⟩ prog_101_method_2_code 1 (Option.none : Option Jvm.ClassFile.FieldType) [.ref a0] M none r := by
  have o0 : fs_OS (sX5_clear FX5_begin) 0 0 (fs_Con (fk_E s0 H0 oa D) l 1 ⟨"BoardMachine$Trees$Tree", "begin", "(II)V"⟩ prog_101_method_3_code 4 (Option.none : Option Jvm.ClassFile.FieldType)) := by
    intro As M r h
    obtain ⟨v0, t0, rfl, g0⟩ := fe_tR_d h
    obtain ⟨v1, t1, rfl, g1⟩ := fe_tI_d g0
    obtain ⟨v2, t2, rfl, g2⟩ := fe_tI_d g1
    obtain ⟨rfl, hz⟩ := fe_t0_d g2
    exact zX5_begin K l v0 v1 v2 M r hz
  refine fs_method (own := "BoardMachine$Trees$Tree") rfl (by decide) K.2.1 (by rw [fe_slen]; exact (Nat.le_of_ble_eq_true rfl)) (mX5_clear a0 M r h) (hX5_clear) 0 rfl (L0 := [(0, .ref a0)]) (fun E => fe_args_e E [.ref a0] 0) ((eX5_clear FX5_clear_0 a0 M).trans h) (fe_kv_k r) (fun H hR => fs_nr_o (by decide) (by decide)) ?_
  intro p e s m args below meth c Q C hnm
  have hw : s0.WarmedH s.vm := C.2.2.2.2.1
  refine fe_all C fk_hwr cX5_clear [1, 5, 10, 15, 21] (by decide +kernel) (fe_fil (cps := [(1, 4, .getfield 1103458654), (5, 8, .putfield 1099260248), (10, 13, .putfield 1116041564), (15, 18, .putfield 1120235868), (21, 24, .invokevirtual 12672087)]) (by decide +kernel) ?_)
  refine fs_c1 (fs_getf (pc := 1) (n := 1103458654) (idx := 14) (ref := "BoardMachine$Trees$Tree") (O := "BoardMachine$Trees$Tree") (name := "store") (desc := "LBoardMachine$Trees$Row;") C (by decide +kernel) (Or.inl (kw K hw q566)) (fun _ h => h) (Nat.le_of_ble_eq_true rfl) (Nat.le_of_ble_eq_true rfl) (fs_one (⟨_, ff_87_263 s0 H0 oa D⟩))) ?_
  refine fs_c1 (fs_putf (pc := 5) (n := 1099260248) (idx := 37) (ref := "BoardMachine$Trees$Row") (O := "BoardMachine$Trees$Row") (name := "size") (desc := "I") (fin := false) (ty := .int) C (by decide +kernel) (Or.inl ⟨rfl, Or.inr ⟨_, kF K hw q459⟩⟩) (fun _ h => h) (Nat.le_of_ble_eq_true rfl) (Nat.le_of_ble_eq_true rfl) (Nat.le_of_ble_eq_true rfl) rfl rfl (by decide) (fs_one (⟨rfl, ff_86_262 s0 H0 oa D⟩))) ?_
  refine fs_c1 (fs_putf (pc := 10) (n := 1116041564) (idx := 41) (ref := "BoardMachine$Trees$Tree") (O := "BoardMachine$Trees$Tree") (name := "nodeCount") (desc := "I") (fin := false) (ty := .int) C (by decide +kernel) (Or.inl ⟨rfl, Or.inl (kw K hw q573)⟩) (fun _ h => h) (Nat.le_of_ble_eq_true rfl) (Nat.le_of_ble_eq_true rfl) (Nat.le_of_ble_eq_true rfl) rfl rfl (by decide) (fs_one (⟨rfl, ff_87_266 s0 H0 oa D⟩))) ?_
  refine fs_c1 (fs_putf (pc := 15) (n := 1120235868) (idx := 44) (ref := "BoardMachine$Trees$Tree") (O := "BoardMachine$Trees$Tree") (name := "propertyCount") (desc := "I") (fin := false) (ty := .int) C (by decide +kernel) (Or.inl ⟨rfl, Or.inl (kw K hw q575)⟩) (fun _ h => h) (Nat.le_of_ble_eq_true rfl) (Nat.le_of_ble_eq_true rfl) (Nat.le_of_ble_eq_true rfl) rfl rfl (by decide) (fs_one (⟨rfl, ff_87_267 s0 H0 oa D⟩))) ?_
  refine fs_c1 (fs_inv_virtual (pc := 21) (n := 12672087) C (Nat.le_of_ble_eq_true rfl) (Nat.le_of_ble_eq_true rfl) (fs_lk_virtual (idx := 47) (y := ⟨"BoardMachine$Trees$Tree", "begin", "(II)V"⟩) (bytes := prog_101_method_3_code) (maxL := 4) (rt := (Option.none : Option Jvm.ClassFile.FieldType)) (d := 1) C (Nat.le_of_ble_eq_true rfl) (Nat.le_of_ble_eq_true rfl) (by decide +kernel) (kw K hw q565) (kw K hw q315) (kw K hw q564) (Or.inl (kw K hw q562)) ⟨by decide, by decide⟩ rfl (Nat.le_of_ble_eq_true rfl) (Nat.le_of_ble_eq_true rfl) (fs_one (⟨_, rfl, kw K hw qs0⟩))) fs_con_mono o0) ?_
  exact fs_c0
theorem hX8_init : fe_H (sX8_init FX7_init) cX8_init [0] fe_kv [] 20 (fun _ => dX8_init FX8_init_0) := by
  intro j pc L st M r hc h
  rcases fe_mem_c hc with rfl | hc
  · obtain ⟨w0, m0, h⟩ := fe_lR_d h
    obtain ⟨rfl, hz⟩ := fe_t0_d h
    exact ⟨[(0, .ref w0)], (fe_cs m0 fe_nl), Or.inr ((bX8_init_0 FX7_init FX8_init_0 w0 M).symm.trans hz)⟩
  exact fe_mem_0 hc
theorem vX8_init : fe_SB (sX8_init FX7_init) := by
  refine ⟨?_, ?_, ?_, ?_⟩
  · intro i As M r h
    rcases fe_bc h with h | h
    · obtain ⟨v0, t0, rfl, g0⟩ := fe_tR_d h
      obtain ⟨rfl, hz⟩ := fe_t0_d g0
      exact mX7_init v0 M r hz
    exact fe_no h
  · intro i As M r h
    exact fe_no h
  · intro i As M r h
    exact fe_no h
  · intro i As M r h
    exact fe_no h
theorem eX8_init (g0 : Nat → FM → Option (FM)) (a0 : Nat) (M : FM) : dX8_init g0 0 [(0, .ref a0)] [] M = g0 a0 M := by rfl
theorem mX8_init (a0 : Nat) (M : FM) (r : FM) (h : FX8_init a0 M = some r) : fm_nx M ≤ fm_nx r ∧ fm_ns M ≤ fm_ns r :=
  fe_mono (L0 := [(0, .ref a0)]) (vX8_init) (by decide +kernel) (hX8_init) (fe_kv_k r) 0 rfl ((eX8_init FX8_init_0 a0 M).trans h)
theorem zX8_init {s0 : State} {H0 : Heap} {oa : Nat → Nat} {D : va_G} (K : fk s0 H0 oa D) (l : Launch) (a0 : Nat) (M : FM) (r : FM) (h : FX8_init a0 M = some r) : fs_Con (fk_E s0 H0 oa D) l 2 ⟨"BoardMachine$Trees$Property", "<init>", "()V"⟩ prog_99_method_1_code 1 (Option.none : Option Jvm.ClassFile.FieldType) [.ref a0] M none r := by
  have o0 : fs_OS (sX8_init FX7_init) 0 0 (fs_Con (fk_E s0 H0 oa D) l 1 ⟨"BoardMachine$Trees$Piece", "<init>", "()V"⟩ prog_97_method_1_code 1 (Option.none : Option Jvm.ClassFile.FieldType)) := by
    intro As M r h
    obtain ⟨v0, t0, rfl, g0⟩ := fe_tR_d h
    obtain ⟨rfl, hz⟩ := fe_t0_d g0
    exact zX7_init K l v0 M r hz
  refine fs_method (own := "BoardMachine$Trees$Property") rfl (by decide) K.2.1 (by rw [fe_slen]; exact (Nat.le_of_ble_eq_true rfl)) (mX8_init a0 M r h) (hX8_init) 0 rfl (L0 := [(0, .ref a0)]) (fun E => fe_args_e E [.ref a0] 0) ((eX8_init FX8_init_0 a0 M).trans h) (fe_kv_k r) (fun H hR => fs_nr_o (by decide) (by decide)) ?_
  intro p e s m args below meth c Q C hnm
  have hw : s0.WarmedH s.vm := C.2.2.2.2.1
  refine fe_all C fk_hwr cX8_init [1, 5, 9, 12, 16, 20, 23] (by decide +kernel) (fe_fil (cps := [(1, 4, .monitorenter), (5, 8, .new 5314), (9, 12, .invokevirtual 4279379), (12, 15, .putfield 1082478934), (16, 19, .new 5314), (20, 23, .invokevirtual 4279379), (23, 26, .putfield 1086673238)]) (by decide +kernel) ?_)
  refine fs_c1 (fs_init (pc := 1) (idx := 1) C (by decide +kernel) (kw K hw q541) (kw K hw q441) (kw K hw q442) ⟨(Nat.le_of_ble_eq_true rfl), (Nat.le_of_ble_eq_true rfl)⟩) ?_
  refine fs_c1 (fs_newo (pc := 5) (n := 5314) (idx := 7) (CC := "BoardMachine$Trees$Piece") (T := fT_83) (N := 2) C (by decide +kernel) (kw K hw q542) (kw K hw q498) (kw K hw q317) (by decide) (Nat.le_of_ble_eq_true rfl) rfl rfl) ?_
  refine fs_c1 (fs_inv_virtual (pc := 9) (n := 4279379) C (Nat.le_of_ble_eq_true rfl) (Nat.le_of_ble_eq_true rfl) (fs_lk_init (idx := 9) (y := ⟨"BoardMachine$Trees$Piece", "<init>", "()V"⟩) (bytes := prog_97_method_1_code) (maxL := 1) (d := 1) C (Nat.le_of_ble_eq_true rfl) (Nat.le_of_ble_eq_true rfl) (by decide +kernel) (kw K hw q501) (kw K hw q317) (kw K hw q500) (Or.inr ⟨_, kM K hw q543⟩) rfl ⟨by decide, by decide⟩ rfl (Nat.le_of_ble_eq_true rfl) (Nat.le_of_ble_eq_true rfl)) fs_con_mono o0) ?_
  refine fs_c1 (fs_putf (pc := 12) (n := 1082478934) (idx := 10) (ref := "BoardMachine$Trees$Property") (O := "BoardMachine$Trees$Property") (name := "name") (desc := "LBoardMachine$Trees$Piece;") (fin := true) (ty := (.object "BoardMachine$Trees$Piece")) C (by decide +kernel) (Or.inr ⟨rfl, kw K hw q544, hnm, rfl⟩) (fun _ h => h) (Nat.le_of_ble_eq_true rfl) (Nat.le_of_ble_eq_true rfl) (Nat.le_of_ble_eq_true rfl) rfl rfl (by decide) (fs_one (⟨rfl, ff_85_258 s0 H0 oa D⟩))) ?_
  refine fs_c1 (fs_newo (pc := 16) (n := 5314) (idx := 7) (CC := "BoardMachine$Trees$Piece") (T := fT_83) (N := 2) C (by decide +kernel) (kw K hw q542) (kw K hw q498) (kw K hw q317) (by decide) (Nat.le_of_ble_eq_true rfl) rfl rfl) ?_
  refine fs_c1 (fs_inv_virtual (pc := 20) (n := 4279379) C (Nat.le_of_ble_eq_true rfl) (Nat.le_of_ble_eq_true rfl) (fs_lk_init (idx := 9) (y := ⟨"BoardMachine$Trees$Piece", "<init>", "()V"⟩) (bytes := prog_97_method_1_code) (maxL := 1) (d := 1) C (Nat.le_of_ble_eq_true rfl) (Nat.le_of_ble_eq_true rfl) (by decide +kernel) (kw K hw q501) (kw K hw q317) (kw K hw q500) (Or.inr ⟨_, kM K hw q543⟩) rfl ⟨by decide, by decide⟩ rfl (Nat.le_of_ble_eq_true rfl) (Nat.le_of_ble_eq_true rfl)) fs_con_mono o0) ?_
  refine fs_c1 (fs_putf (pc := 23) (n := 1086673238) (idx := 16) (ref := "BoardMachine$Trees$Property") (O := "BoardMachine$Trees$Property") (name := "value") (desc := "LBoardMachine$Trees$Piece;") (fin := true) (ty := (.object "BoardMachine$Trees$Piece")) C (by decide +kernel) (Or.inr ⟨rfl, kw K hw q547, hnm, rfl⟩) (fun _ h => h) (Nat.le_of_ble_eq_true rfl) (Nat.le_of_ble_eq_true rfl) (Nat.le_of_ble_eq_true rfl) rfl rfl (by decide) (fs_one (⟨rfl, ff_85_259 s0 H0 oa D⟩))) ?_
  exact fs_c0
theorem hX5_init (n : Nat) : fe_H (sX5_init FX3_init FX6_init FX5_clear FX8_init) cX5_init [0, 40, 68] fe_kv [40, 68] 52 (fun j => dX5_init (FX5_init_0 n (FX5_init_L n j).1 (FX5_init_L n j).2) (FX5_init_L n j).1 (FX5_init_L n j).2) := by
  intro j pc L st M r hc h
  rcases fe_mem_c hc with rfl | hc
  · obtain ⟨w0, m0, h⟩ := fe_lR_d h
    obtain ⟨rfl, hz⟩ := fe_t0_d h
    exact ⟨[(0, .ref w0)], (fe_cs m0 fe_nl), Or.inr ((bX5_init_0 FX3_init FX6_init FX5_clear FX8_init (FX5_init_0 n (FX5_init_L n j).1 (FX5_init_L n j).2) (FX5_init_L n j).1 (FX5_init_L n j).2 w0 M).symm.trans hz)⟩
  rcases fe_mem_c hc with rfl | hc
  · obtain ⟨w0, m0, h⟩ := fe_lR_d h
    obtain ⟨w1, m1, h⟩ := fe_lI_d h
    obtain ⟨rfl, hz⟩ := fe_t0_d h
    cases j with
    | zero => exact fe_no hz
    | succ j => exact ⟨[(0, .ref w0), (1, .int w1)], (fe_cs m0 (fe_cs m1 fe_nl)), Or.inl ⟨j, rfl, (bX5_init_40 FX3_init FX6_init FX5_clear FX8_init (FX5_init_0 n (FX5_init_L n j).1 (FX5_init_L n j).2) (FX5_init_L n j).1 (FX5_init_L n j).2 w0 w1 M).symm.trans hz⟩⟩
  rcases fe_mem_c hc with rfl | hc
  · obtain ⟨w0, m0, h⟩ := fe_lR_d h
    obtain ⟨w1, m1, h⟩ := fe_lI_d h
    obtain ⟨rfl, hz⟩ := fe_t0_d h
    cases j with
    | zero => exact fe_no hz
    | succ j => exact ⟨[(0, .ref w0), (1, .int w1)], (fe_cs m0 (fe_cs m1 fe_nl)), Or.inl ⟨j, rfl, (bX5_init_68 FX3_init FX6_init FX5_clear FX8_init (FX5_init_0 n (FX5_init_L n j).1 (FX5_init_L n j).2) (FX5_init_L n j).1 (FX5_init_L n j).2 w0 w1 M).symm.trans hz⟩⟩
  exact fe_mem_0 hc
theorem vX5_init (n : Nat) : fe_SB (sX5_init FX3_init FX6_init FX5_clear FX8_init) := by
  refine ⟨?_, ?_, ?_, ?_⟩
  · intro i As M r h
    rcases fe_bc h with h | h
    · obtain ⟨v0, t0, rfl, g0⟩ := fe_tR_d h
      obtain ⟨v1, t1, rfl, g1⟩ := fe_tI_d g0
      obtain ⟨rfl, hz⟩ := fe_t0_d g1
      exact mX3_init v0 v1 M r hz
    rcases fe_bc h with h | h
    · obtain ⟨v0, t0, rfl, g0⟩ := fe_tR_d h
      obtain ⟨rfl, hz⟩ := fe_t0_d g0
      exact mX6_init v0 M r hz
    rcases fe_bc h with h | h
    · obtain ⟨v0, t0, rfl, g0⟩ := fe_tR_d h
      obtain ⟨rfl, hz⟩ := fe_t0_d g0
      exact mX5_clear v0 M r hz
    rcases fe_bc h with h | h
    · obtain ⟨v0, t0, rfl, g0⟩ := fe_tR_d h
      obtain ⟨rfl, hz⟩ := fe_t0_d g0
      exact mX8_init v0 M r hz
    exact fe_no h
  · intro i As M r h
    exact fe_no h
  · intro i As M r h
    exact fe_no h
  · intro i As M r h
    exact fe_no h
theorem eX5_init (g0 : Nat → FM → Option (FM)) (k40 : Nat → Int32 → FM → Option (FM)) (k68 : Nat → Int32 → FM → Option (FM)) (a0 : Nat) (M : FM) : dX5_init g0 k40 k68 0 [(0, .ref a0)] [] M = g0 a0 M := by rfl
theorem mX5_init (n : Nat) (a0 : Nat) (M : FM) (r : FM) (h : FX5_init n a0 M = some r) : fm_nx M ≤ fm_nx r ∧ fm_ns M ≤ fm_ns r :=
  fe_mono (L0 := [(0, .ref a0)]) (vX5_init n) (by decide +kernel) (hX5_init n) (fe_kv_k r) n rfl ((eX5_init (FX5_init_0 n (FX5_init_L n n).1 (FX5_init_L n n).2) (FX5_init_L n n).1 (FX5_init_L n n).2 a0 M).trans h)
theorem zX5_init {s0 : State} {H0 : Heap} {oa : Nat → Nat} {D : va_G} (K : fk s0 H0 oa D) (l : Launch) (n : Nat) (a0 : Nat) (M : FM) (r : FM) (h : FX5_init n a0 M = some r) : fs_Con (fk_E s0 H0 oa D) l 3 ⟨"BoardMachine$Trees$Tree", "<init>", "()V"⟩ prog_101_method_1_code 2 (Option.none : Option Jvm.ClassFile.FieldType) [.ref a0] M none r := by
  have o0 : fs_OS (sX5_init FX3_init FX6_init FX5_clear FX8_init) 0 0 (fs_Con (fk_E s0 H0 oa D) l 1 ⟨"BoardMachine$Trees$Row", "<init>", "(I)V"⟩ prog_100_method_1_code 2 (Option.none : Option Jvm.ClassFile.FieldType)) := by
    intro As M r h
    obtain ⟨v0, t0, rfl, g0⟩ := fe_tR_d h
    obtain ⟨v1, t1, rfl, g1⟩ := fe_tI_d g0
    obtain ⟨rfl, hz⟩ := fe_t0_d g1
    exact zX3_init K l v0 v1 M r hz
  have o1 : fs_OS (sX5_init FX3_init FX6_init FX5_clear FX8_init) 1 0 (fs_Con (fk_E s0 H0 oa D) l 2 ⟨"BoardMachine$Trees$Node", "<init>", "()V"⟩ prog_96_method_1_code 1 (Option.none : Option Jvm.ClassFile.FieldType)) := by
    intro As M r h
    obtain ⟨v0, t0, rfl, g0⟩ := fe_tR_d h
    obtain ⟨rfl, hz⟩ := fe_t0_d g0
    exact zX6_init K l v0 M r hz
  have o2 : fs_OS (sX5_init FX3_init FX6_init FX5_clear FX8_init) 2 0 (fs_Con (fk_E s0 H0 oa D) l 2 ⟨"BoardMachine$Trees$Tree", "clear", "()V"⟩ prog_101_method_2_code 1 (Option.none : Option Jvm.ClassFile.FieldType)) := by
    intro As M r h
    obtain ⟨v0, t0, rfl, g0⟩ := fe_tR_d h
    obtain ⟨rfl, hz⟩ := fe_t0_d g0
    exact zX5_clear K l v0 M r hz
  have o3 : fs_OS (sX5_init FX3_init FX6_init FX5_clear FX8_init) 3 0 (fs_Con (fk_E s0 H0 oa D) l 2 ⟨"BoardMachine$Trees$Property", "<init>", "()V"⟩ prog_99_method_1_code 1 (Option.none : Option Jvm.ClassFile.FieldType)) := by
    intro As M r h
    obtain ⟨v0, t0, rfl, g0⟩ := fe_tR_d h
    obtain ⟨rfl, hz⟩ := fe_t0_d g0
    exact zX8_init K l v0 M r hz
  refine fs_method (own := "BoardMachine$Trees$Tree") rfl (by decide) K.2.1 (by rw [fe_slen]; exact (Nat.le_of_ble_eq_true rfl)) (mX5_init n a0 M r h) (hX5_init n) n rfl (L0 := [(0, .ref a0)]) (fun E => fe_args_e E [.ref a0] 0) ((eX5_init (FX5_init_0 n (FX5_init_L n n).1 (FX5_init_L n n).2) (FX5_init_L n n).1 (FX5_init_L n n).2 a0 M).trans h) (fe_kv_k r) (fun H hR => fs_nr_o (by decide) (by decide)) ?_
  intro p e s m args below meth c Q C hnm
  have hw : s0.WarmedH s.vm := C.2.2.2.2.1
  refine fe_all C fk_hwr cX5_init [1, 5, 12, 15, 22, 25, 32, 35, 48, 52, 56, 59, 76, 80, 84, 87, 95] (by decide +kernel) (fe_fil (cps := [(1, 4, .monitorenter), (5, 8, .new 5506), (12, 15, .invokevirtual 8476758), (15, 18, .putfield 1103458654), (22, 25, .anewarray 271260), (25, 28, .putfield 1107652958), (32, 35, .anewarray 272285), (35, 38, .putfield 1111847262), (48, 51, .getfield 1107652958), (52, 55, .new 5254), (56, 59, .invokevirtual 71387218), (59, 60, .instanceof 968968274), (76, 79, .getfield 1111847262), (80, 83, .new 5443), (84, 87, .invokevirtual 205608021), (87, 88, .instanceof 970019925), (95, 98, .invokevirtual 138501207)]) (by decide +kernel) ?_)
  refine fs_c1 (fs_init (pc := 1) (idx := 3) C (by decide +kernel) (kw K hw q485) (kw K hw q441) (kw K hw q442) ⟨(Nat.le_of_ble_eq_true rfl), (Nat.le_of_ble_eq_true rfl)⟩) ?_
  refine fs_c1 (fs_newo (pc := 5) (n := 5506) (idx := 9) (CC := "BoardMachine$Trees$Row") (T := fT_86) (N := 2) C (by decide +kernel) (kw K hw q486) (kw K hw q450) (kw K hw q313) (by decide) (Nat.le_of_ble_eq_true rfl) rfl rfl) ?_
  refine fs_c1 (fs_inv_virtual (pc := 12) (n := 8476758) C (Nat.le_of_ble_eq_true rfl) (Nat.le_of_ble_eq_true rfl) (fs_lk_init (idx := 11) (y := ⟨"BoardMachine$Trees$Row", "<init>", "(I)V"⟩) (bytes := prog_100_method_1_code) (maxL := 2) (d := 1) C (Nat.le_of_ble_eq_true rfl) (Nat.le_of_ble_eq_true rfl) (by decide +kernel) (kw K hw q454) (kw K hw q313) (kw K hw q453) (Or.inl (kw K hw q487)) rfl ⟨by decide, by decide⟩ rfl (Nat.le_of_ble_eq_true rfl) (Nat.le_of_ble_eq_true rfl)) fs_con_mono o0) ?_
  refine fs_c1 (fs_putf (pc := 15) (n := 1103458654) (idx := 14) (ref := "BoardMachine$Trees$Tree") (O := "BoardMachine$Trees$Tree") (name := "store") (desc := "LBoardMachine$Trees$Row;") (fin := true) (ty := (.object "BoardMachine$Trees$Row")) C (by decide +kernel) (Or.inr ⟨rfl, kw K hw q566, hnm, rfl⟩) (fun _ h => h) (Nat.le_of_ble_eq_true rfl) (Nat.le_of_ble_eq_true rfl) (Nat.le_of_ble_eq_true rfl) rfl rfl (by decide) (fs_one (⟨rfl, ff_87_263 s0 H0 oa D⟩))) ?_
  refine fs_c1 (fs_newr (pc := 22) (n := 271260) (t := 924) (idx := 20) (CC := "BoardMachine$Trees$Node") C (by decide +kernel) (kw K hw q488) (kO K hw q489) rfl (Nat.le_of_ble_eq_true rfl) rfl rfl) ?_
  refine fs_c1 (fs_putf (pc := 25) (n := 1107652958) (idx := 22) (ref := "BoardMachine$Trees$Tree") (O := "BoardMachine$Trees$Tree") (name := "nodes") (desc := "[LBoardMachine$Trees$Node;") (fin := true) (ty := (.array (.object "BoardMachine$Trees$Node"))) C (by decide +kernel) (Or.inr ⟨rfl, kw K hw q569, hnm, rfl⟩) (fun _ h => h) (Nat.le_of_ble_eq_true rfl) (Nat.le_of_ble_eq_true rfl) (Nat.le_of_ble_eq_true rfl) rfl rfl (by decide) (fs_one (⟨rfl, ff_87_264 s0 H0 oa D⟩))) ?_
  refine fs_c1 (fs_newr (pc := 32) (n := 272285) (t := 925) (idx := 26) (CC := "BoardMachine$Trees$Property") C (by decide +kernel) (kw K hw q490) (kO K hw q491) rfl (Nat.le_of_ble_eq_true rfl) rfl rfl) ?_
  refine fs_c1 (fs_putf (pc := 35) (n := 1111847262) (idx := 28) (ref := "BoardMachine$Trees$Tree") (O := "BoardMachine$Trees$Tree") (name := "properties") (desc := "[LBoardMachine$Trees$Property;") (fin := true) (ty := (.array (.object "BoardMachine$Trees$Property"))) C (by decide +kernel) (Or.inr ⟨rfl, kw K hw q571, hnm, rfl⟩) (fun _ h => h) (Nat.le_of_ble_eq_true rfl) (Nat.le_of_ble_eq_true rfl) (Nat.le_of_ble_eq_true rfl) rfl rfl (by decide) (fs_one (⟨rfl, ff_87_265 s0 H0 oa D⟩))) ?_
  refine fs_c1 (fs_getf (pc := 48) (n := 1107652958) (idx := 22) (ref := "BoardMachine$Trees$Tree") (O := "BoardMachine$Trees$Tree") (name := "nodes") (desc := "[LBoardMachine$Trees$Node;") C (by decide +kernel) (Or.inl (kw K hw q569)) (fun _ h => h) (Nat.le_of_ble_eq_true rfl) (Nat.le_of_ble_eq_true rfl) (fs_one (⟨_, ff_87_264 s0 H0 oa D⟩))) ?_
  refine fs_c1 (fs_newo (pc := 52) (n := 5254) (idx := 20) (CC := "BoardMachine$Trees$Node") (T := fT_82) (N := 6) C (by decide +kernel) (kw K hw q488) (kw K hw q492) (kw K hw q316) (by decide) (Nat.le_of_ble_eq_true rfl) rfl rfl) ?_
  refine fs_c1 (fs_inv_virtual (pc := 56) (n := 71387218) C (Nat.le_of_ble_eq_true rfl) (Nat.le_of_ble_eq_true rfl) (fs_lk_init (idx := 32) (y := ⟨"BoardMachine$Trees$Node", "<init>", "()V"⟩) (bytes := prog_96_method_1_code) (maxL := 1) (d := 2) C (Nat.le_of_ble_eq_true rfl) (Nat.le_of_ble_eq_true rfl) (by decide +kernel) (kw K hw q495) (kw K hw q316) (kw K hw q494) (Or.inr ⟨_, kM K hw q493⟩) rfl ⟨by decide, by decide⟩ rfl (Nat.le_of_ble_eq_true rfl) (Nat.le_of_ble_eq_true rfl)) fs_con_mono o1) ?_
  refine fs_c1 (fs_astr (pc := 59) (n := 968968274) (EE := "BoardMachine$Trees$Node") C (by decide +kernel) (Nat.le_of_ble_eq_true rfl) rfl rfl (Nat.le_of_ble_eq_true rfl) (Nat.le_of_ble_eq_true rfl) (fs_one (⟨_, rfl, Or.inl rfl⟩))) ?_
  refine fs_c1 (fs_getf (pc := 76) (n := 1111847262) (idx := 28) (ref := "BoardMachine$Trees$Tree") (O := "BoardMachine$Trees$Tree") (name := "properties") (desc := "[LBoardMachine$Trees$Property;") C (by decide +kernel) (Or.inl (kw K hw q571)) (fun _ h => h) (Nat.le_of_ble_eq_true rfl) (Nat.le_of_ble_eq_true rfl) (fs_one (⟨_, ff_87_265 s0 H0 oa D⟩))) ?_
  refine fs_c1 (fs_newo (pc := 80) (n := 5443) (idx := 26) (CC := "BoardMachine$Trees$Property") (T := fT_85) (N := 3) C (by decide +kernel) (kw K hw q490) (kw K hw q537) (kw K hw q318) (by decide) (Nat.le_of_ble_eq_true rfl) rfl rfl) ?_
  refine fs_c1 (fs_inv_virtual (pc := 84) (n := 205608021) C (Nat.le_of_ble_eq_true rfl) (Nat.le_of_ble_eq_true rfl) (fs_lk_init (idx := 33) (y := ⟨"BoardMachine$Trees$Property", "<init>", "()V"⟩) (bytes := prog_99_method_1_code) (maxL := 1) (d := 2) C (Nat.le_of_ble_eq_true rfl) (Nat.le_of_ble_eq_true rfl) (by decide +kernel) (kw K hw q540) (kw K hw q318) (kw K hw q539) (Or.inr ⟨_, kM K hw q538⟩) rfl ⟨by decide, by decide⟩ rfl (Nat.le_of_ble_eq_true rfl) (Nat.le_of_ble_eq_true rfl)) fs_con_mono o3) ?_
  refine fs_c1 (fs_astr (pc := 87) (n := 970019925) (EE := "BoardMachine$Trees$Property") C (by decide +kernel) (Nat.le_of_ble_eq_true rfl) rfl rfl (Nat.le_of_ble_eq_true rfl) (Nat.le_of_ble_eq_true rfl) (fs_one (⟨_, rfl, Or.inl rfl⟩))) ?_
  refine fs_c1 (fs_inv_virtual (pc := 95) (n := 138501207) C (Nat.le_of_ble_eq_true rfl) (Nat.le_of_ble_eq_true rfl) (fs_lk_virtual (idx := 34) (y := ⟨"BoardMachine$Trees$Tree", "clear", "()V"⟩) (bytes := prog_101_method_2_code) (maxL := 1) (rt := (Option.none : Option Jvm.ClassFile.FieldType)) (d := 2) C (Nat.le_of_ble_eq_true rfl) (Nat.le_of_ble_eq_true rfl) (by decide +kernel) (kw K hw q561) (kw K hw q315) (kw K hw q559) (Or.inl (kw K hw q558)) ⟨by decide, by decide⟩ rfl (Nat.le_of_ble_eq_true rfl) (Nat.le_of_ble_eq_true rfl) (fs_one (⟨_, rfl, kw K hw q560⟩))) fs_con_mono o2) ?_
  exact fs_c0
theorem hX9_init : fe_H (sX9_init FX3_init) cX9_init [0] fe_kv [] 20 (fun _ => dX9_init FX9_init_0) := by
  intro j pc L st M r hc h
  rcases fe_mem_c hc with rfl | hc
  · obtain ⟨w0, m0, h⟩ := fe_lR_d h
    obtain ⟨rfl, hz⟩ := fe_t0_d h
    exact ⟨[(0, .ref w0)], (fe_cs m0 fe_nl), Or.inr ((bX9_init_0 FX3_init FX9_init_0 w0 M).symm.trans hz)⟩
  exact fe_mem_0 hc
theorem vX9_init : fe_SB (sX9_init FX3_init) := by
  refine ⟨?_, ?_, ?_, ?_⟩
  · intro i As M r h
    rcases fe_bc h with h | h
    · obtain ⟨v0, t0, rfl, g0⟩ := fe_tR_d h
      obtain ⟨v1, t1, rfl, g1⟩ := fe_tI_d g0
      obtain ⟨rfl, hz⟩ := fe_t0_d g1
      exact mX3_init v0 v1 M r hz
    exact fe_no h
  · intro i As M r h
    exact fe_no h
  · intro i As M r h
    exact fe_no h
  · intro i As M r h
    exact fe_no h
theorem eX9_init (g0 : Nat → FM → Option (FM)) (a0 : Nat) (M : FM) : dX9_init g0 0 [(0, .ref a0)] [] M = g0 a0 M := by rfl
theorem mX9_init (a0 : Nat) (M : FM) (r : FM) (h : FX9_init a0 M = some r) : fm_nx M ≤ fm_nx r ∧ fm_ns M ≤ fm_ns r :=
  fe_mono (L0 := [(0, .ref a0)]) (vX9_init) (by decide +kernel) (hX9_init) (fe_kv_k r) 0 rfl ((eX9_init FX9_init_0 a0 M).trans h)
theorem zX9_init {s0 : State} {H0 : Heap} {oa : Nat → Nat} {D : va_G} (K : fk s0 H0 oa D) (l : Launch) (a0 : Nat) (M : FM) (r : FM) (h : FX9_init a0 M = some r) : fs_Con (fk_E s0 H0 oa D) l 2 ⟨"BoardMachine$Trees$Press", "<init>", "()V"⟩ prog_98_method_1_code 1 (Option.none : Option Jvm.ClassFile.FieldType) [.ref a0] M none r := by
  have o0 : fs_OS (sX9_init FX3_init) 0 0 (fs_Con (fk_E s0 H0 oa D) l 1 ⟨"BoardMachine$Trees$Row", "<init>", "(I)V"⟩ prog_100_method_1_code 2 (Option.none : Option Jvm.ClassFile.FieldType)) := by
    intro As M r h
    obtain ⟨v0, t0, rfl, g0⟩ := fe_tR_d h
    obtain ⟨v1, t1, rfl, g1⟩ := fe_tI_d g0
    obtain ⟨rfl, hz⟩ := fe_t0_d g1
    exact zX3_init K l v0 v1 M r hz
  refine fs_method (own := "BoardMachine$Trees$Press") rfl (by decide) K.2.1 (by rw [fe_slen]; exact (Nat.le_of_ble_eq_true rfl)) (mX9_init a0 M r h) (hX9_init) 0 rfl (L0 := [(0, .ref a0)]) (fun E => fe_args_e E [.ref a0] 0) ((eX9_init FX9_init_0 a0 M).trans h) (fe_kv_k r) (fun H hR => fs_nr_o (by decide) (by decide)) ?_
  intro p e s m args below meth c Q C hnm
  have hw : s0.WarmedH s.vm := C.2.2.2.2.1
  refine fe_all C fk_hwr cX9_init [1, 5, 9, 11, 14, 18, 25, 28] (by decide +kernel) (fe_fil (cps := [(1, 4, .monitorenter), (5, 8, .new 5506), (9, 11, .iconst (65536)), (11, 14, .invokevirtual 8476758), (14, 17, .putfield 1074086226), (18, 21, .new 5506), (25, 28, .invokevirtual 8476758), (28, 31, .putfield 1078280530)]) (by decide +kernel) ?_)
  refine fs_c1 (fs_init (pc := 1) (idx := 3) C (by decide +kernel) (kw K hw q595) (kw K hw q441) (kw K hw q442) ⟨(Nat.le_of_ble_eq_true rfl), (Nat.le_of_ble_eq_true rfl)⟩) ?_
  refine fs_c1 (fs_newo (pc := 5) (n := 5506) (idx := 9) (CC := "BoardMachine$Trees$Row") (T := fT_86) (N := 2) C (by decide +kernel) (kw K hw q596) (kw K hw q450) (kw K hw q313) (by decide) (Nat.le_of_ble_eq_true rfl) rfl rfl) ?_
  refine fs_c1 (fs_ldci (pc := 9) (idx := 11) (v := 65536) C (by decide +kernel) (kw K hw q597)) ?_
  refine fs_c1 (fs_inv_virtual (pc := 11) (n := 8476758) C (Nat.le_of_ble_eq_true rfl) (Nat.le_of_ble_eq_true rfl) (fs_lk_init (idx := 12) (y := ⟨"BoardMachine$Trees$Row", "<init>", "(I)V"⟩) (bytes := prog_100_method_1_code) (maxL := 2) (d := 1) C (Nat.le_of_ble_eq_true rfl) (Nat.le_of_ble_eq_true rfl) (by decide +kernel) (kw K hw q454) (kw K hw q313) (kw K hw q453) (Or.inl (kw K hw q598)) rfl ⟨by decide, by decide⟩ rfl (Nat.le_of_ble_eq_true rfl) (Nat.le_of_ble_eq_true rfl)) fs_con_mono o0) ?_
  refine fs_c1 (fs_putf (pc := 14) (n := 1074086226) (idx := 15) (ref := "BoardMachine$Trees$Press") (O := "BoardMachine$Trees$Press") (name := "out") (desc := "LBoardMachine$Trees$Row;") (fin := true) (ty := (.object "BoardMachine$Trees$Row")) C (by decide +kernel) (Or.inr ⟨rfl, kw K hw q599, hnm, rfl⟩) (fun _ h => h) (Nat.le_of_ble_eq_true rfl) (Nat.le_of_ble_eq_true rfl) (Nat.le_of_ble_eq_true rfl) rfl rfl (by decide) (fs_one (⟨rfl, ff_84_256 s0 H0 oa D⟩))) ?_
  refine fs_c1 (fs_newo (pc := 18) (n := 5506) (idx := 9) (CC := "BoardMachine$Trees$Row") (T := fT_86) (N := 2) C (by decide +kernel) (kw K hw q596) (kw K hw q450) (kw K hw q313) (by decide) (Nat.le_of_ble_eq_true rfl) rfl rfl) ?_
  refine fs_c1 (fs_inv_virtual (pc := 25) (n := 8476758) C (Nat.le_of_ble_eq_true rfl) (Nat.le_of_ble_eq_true rfl) (fs_lk_init (idx := 12) (y := ⟨"BoardMachine$Trees$Row", "<init>", "(I)V"⟩) (bytes := prog_100_method_1_code) (maxL := 2) (d := 1) C (Nat.le_of_ble_eq_true rfl) (Nat.le_of_ble_eq_true rfl) (by decide +kernel) (kw K hw q454) (kw K hw q313) (kw K hw q453) (Or.inl (kw K hw q598)) rfl ⟨by decide, by decide⟩ rfl (Nat.le_of_ble_eq_true rfl) (Nat.le_of_ble_eq_true rfl)) fs_con_mono o0) ?_
  refine fs_c1 (fs_putf (pc := 28) (n := 1078280530) (idx := 21) (ref := "BoardMachine$Trees$Press") (O := "BoardMachine$Trees$Press") (name := "names") (desc := "LBoardMachine$Trees$Row;") (fin := true) (ty := (.object "BoardMachine$Trees$Row")) C (by decide +kernel) (Or.inr ⟨rfl, kw K hw q601, hnm, rfl⟩) (fun _ h => h) (Nat.le_of_ble_eq_true rfl) (Nat.le_of_ble_eq_true rfl) (Nat.le_of_ble_eq_true rfl) rfl rfl (by decide) (fs_one (⟨rfl, ff_84_257 s0 H0 oa D⟩))) ?_
  exact fs_c0
theorem hX4_init (n : Nat) : fe_H (sX4_init FX3_init (FX5_init n) FX9_init) cX4_init [0] fe_kv [] 24 (fun _ => dX4_init (FX4_init_0 n)) := by
  intro j pc L st M r hc h
  rcases fe_mem_c hc with rfl | hc
  · obtain ⟨w0, m0, h⟩ := fe_lR_d h
    obtain ⟨rfl, hz⟩ := fe_t0_d h
    exact ⟨[(0, .ref w0)], (fe_cs m0 fe_nl), Or.inr ((bX4_init_0 FX3_init (FX5_init n) FX9_init (FX4_init_0 n ) w0 M).symm.trans hz)⟩
  exact fe_mem_0 hc
theorem vX4_init (n : Nat) : fe_SB (sX4_init FX3_init (FX5_init n) FX9_init) := by
  refine ⟨?_, ?_, ?_, ?_⟩
  · intro i As M r h
    rcases fe_bc h with h | h
    · obtain ⟨v0, t0, rfl, g0⟩ := fe_tR_d h
      obtain ⟨v1, t1, rfl, g1⟩ := fe_tI_d g0
      obtain ⟨rfl, hz⟩ := fe_t0_d g1
      exact mX3_init v0 v1 M r hz
    rcases fe_bc h with h | h
    · obtain ⟨v0, t0, rfl, g0⟩ := fe_tR_d h
      obtain ⟨rfl, hz⟩ := fe_t0_d g0
      exact mX5_init n v0 M r hz
    rcases fe_bc h with h | h
    · obtain ⟨v0, t0, rfl, g0⟩ := fe_tR_d h
      obtain ⟨rfl, hz⟩ := fe_t0_d g0
      exact mX9_init v0 M r hz
    exact fe_no h
  · intro i As M r h
    exact fe_no h
  · intro i As M r h
    exact fe_no h
  · intro i As M r h
    exact fe_no h
theorem eX4_init (g0 : Nat → FM → Option (FM)) (a0 : Nat) (M : FM) : dX4_init g0 0 [(0, .ref a0)] [] M = g0 a0 M := by rfl
theorem mX4_init (n : Nat) (a0 : Nat) (M : FM) (r : FM) (h : FX4_init n a0 M = some r) : fm_nx M ≤ fm_nx r ∧ fm_ns M ≤ fm_ns r :=
  fe_mono (L0 := [(0, .ref a0)]) (vX4_init n) (by decide +kernel) (hX4_init n) (fe_kv_k r) 0 rfl ((eX4_init (FX4_init_0 n ) a0 M).trans h)
theorem zX4_init {s0 : State} {H0 : Heap} {oa : Nat → Nat} {D : va_G} (K : fk s0 H0 oa D) (l : Launch) (n : Nat) (a0 : Nat) (M : FM) (r : FM) (h : FX4_init n a0 M = some r) : fs_Con (fk_E s0 H0 oa D) l 4 ⟨"BoardMachine$Describer", "<init>", "()V"⟩ prog_14_method_1_code 1 (Option.none : Option Jvm.ClassFile.FieldType) [.ref a0] M none r := by
  have o0 : fs_OS (sX4_init FX3_init (FX5_init n) FX9_init) 0 0 (fs_Con (fk_E s0 H0 oa D) l 1 ⟨"BoardMachine$Trees$Row", "<init>", "(I)V"⟩ prog_100_method_1_code 2 (Option.none : Option Jvm.ClassFile.FieldType)) := by
    intro As M r h
    obtain ⟨v0, t0, rfl, g0⟩ := fe_tR_d h
    obtain ⟨v1, t1, rfl, g1⟩ := fe_tI_d g0
    obtain ⟨rfl, hz⟩ := fe_t0_d g1
    exact zX3_init K l v0 v1 M r hz
  have o1 : fs_OS (sX4_init FX3_init (FX5_init n) FX9_init) 1 0 (fs_Con (fk_E s0 H0 oa D) l 3 ⟨"BoardMachine$Trees$Tree", "<init>", "()V"⟩ prog_101_method_1_code 2 (Option.none : Option Jvm.ClassFile.FieldType)) := by
    intro As M r h
    obtain ⟨v0, t0, rfl, g0⟩ := fe_tR_d h
    obtain ⟨rfl, hz⟩ := fe_t0_d g0
    exact zX5_init K l n v0 M r hz
  have o2 : fs_OS (sX4_init FX3_init (FX5_init n) FX9_init) 2 0 (fs_Con (fk_E s0 H0 oa D) l 2 ⟨"BoardMachine$Trees$Press", "<init>", "()V"⟩ prog_98_method_1_code 1 (Option.none : Option Jvm.ClassFile.FieldType)) := by
    intro As M r h
    obtain ⟨v0, t0, rfl, g0⟩ := fe_tR_d h
    obtain ⟨rfl, hz⟩ := fe_t0_d g0
    exact zX9_init K l v0 M r hz
  refine fs_method (own := "BoardMachine$Describer") rfl (by decide) K.2.1 (by rw [fe_slen]; exact (Nat.le_of_ble_eq_true rfl)) (mX4_init n a0 M r h) (hX4_init n) 0 rfl (L0 := [(0, .ref a0)]) (fun E => fe_args_e E [.ref a0] 0) ((eX4_init (FX4_init_0 n ) a0 M).trans h) (fe_kv_k r) (fun H hR => fs_nr_o (by decide) (by decide)) ?_
  intro p e s m args below meth c Q C hnm
  have hw : s0.WarmedH s.vm := C.2.2.2.2.1
  refine fe_all C fk_hwr cX4_init [1, 5, 12, 15, 19, 23, 26, 30, 34, 37] (by decide +kernel) (fe_fil (cps := [(1, 4, .monitorenter), (5, 8, .new 5506), (12, 15, .invokevirtual 8476758), (15, 18, .putfield 230772822), (19, 22, .new 5574), (23, 26, .invokevirtual 71392343), (26, 29, .putfield 234967126), (30, 33, .new 5378), (34, 37, .invokevirtual 138498132), (37, 40, .putfield 239161430)]) (by decide +kernel) ?_)
  refine fs_c1 (fs_init (pc := 1) (idx := 3) C (by decide +kernel) (kw K hw q477) (kw K hw q441) (kw K hw q442) ⟨(Nat.le_of_ble_eq_true rfl), (Nat.le_of_ble_eq_true rfl)⟩) ?_
  refine fs_c1 (fs_newo (pc := 5) (n := 5506) (idx := 9) (CC := "BoardMachine$Trees$Row") (T := fT_86) (N := 2) C (by decide +kernel) (kw K hw q478) (kw K hw q450) (kw K hw q313) (by decide) (Nat.le_of_ble_eq_true rfl) rfl rfl) ?_
  refine fs_c1 (fs_inv_virtual (pc := 12) (n := 8476758) C (Nat.le_of_ble_eq_true rfl) (Nat.le_of_ble_eq_true rfl) (fs_lk_init (idx := 11) (y := ⟨"BoardMachine$Trees$Row", "<init>", "(I)V"⟩) (bytes := prog_100_method_1_code) (maxL := 2) (d := 1) C (Nat.le_of_ble_eq_true rfl) (Nat.le_of_ble_eq_true rfl) (by decide +kernel) (kw K hw q454) (kw K hw q313) (kw K hw q453) (Or.inl (kw K hw q479)) rfl ⟨by decide, by decide⟩ rfl (Nat.le_of_ble_eq_true rfl) (Nat.le_of_ble_eq_true rfl)) fs_con_mono o0) ?_
  refine fs_c1 (fs_putf (pc := 15) (n := 230772822) (idx := 14) (ref := "BoardMachine$Describer") (O := "BoardMachine$Describer") (name := "piece") (desc := "LBoardMachine$Trees$Row;") (fin := true) (ty := (.object "BoardMachine$Trees$Row")) C (by decide +kernel) (Or.inr ⟨rfl, kw K hw q607, hnm, rfl⟩) (fun _ h => h) (Nat.le_of_ble_eq_true rfl) (Nat.le_of_ble_eq_true rfl) (Nat.le_of_ble_eq_true rfl) rfl rfl (by decide) (fs_one (⟨rfl, ff_21_55 s0 H0 oa D⟩))) ?_
  refine fs_c1 (fs_newo (pc := 19) (n := 5574) (idx := 20) (CC := "BoardMachine$Trees$Tree") (T := fT_87) (N := 6) C (by decide +kernel) (kw K hw q480) (kw K hw q481) (kw K hw q315) (by decide) (Nat.le_of_ble_eq_true rfl) rfl rfl) ?_
  refine fs_c1 (fs_inv_virtual (pc := 23) (n := 71392343) C (Nat.le_of_ble_eq_true rfl) (Nat.le_of_ble_eq_true rfl) (fs_lk_init (idx := 22) (y := ⟨"BoardMachine$Trees$Tree", "<init>", "()V"⟩) (bytes := prog_101_method_1_code) (maxL := 2) (d := 3) C (Nat.le_of_ble_eq_true rfl) (Nat.le_of_ble_eq_true rfl) (by decide +kernel) (kw K hw q484) (kw K hw q315) (kw K hw q483) (Or.inl (kw K hw q482)) rfl ⟨by decide, by decide⟩ rfl (Nat.le_of_ble_eq_true rfl) (Nat.le_of_ble_eq_true rfl)) fs_con_mono o1) ?_
  refine fs_c1 (fs_putf (pc := 26) (n := 234967126) (idx := 23) (ref := "BoardMachine$Describer") (O := "BoardMachine$Describer") (name := "tree") (desc := "LBoardMachine$Trees$Tree;") (fin := true) (ty := (.object "BoardMachine$Trees$Tree")) C (by decide +kernel) (Or.inr ⟨rfl, kw K hw q608, hnm, rfl⟩) (fun _ h => h) (Nat.le_of_ble_eq_true rfl) (Nat.le_of_ble_eq_true rfl) (Nat.le_of_ble_eq_true rfl) rfl rfl (by decide) (fs_one (⟨rfl, ff_21_56 s0 H0 oa D⟩))) ?_
  refine fs_c1 (fs_newo (pc := 30) (n := 5378) (idx := 27) (CC := "BoardMachine$Trees$Press") (T := fT_84) (N := 2) C (by decide +kernel) (kw K hw q590) (kw K hw q591) (kw K hw q319) (by decide) (Nat.le_of_ble_eq_true rfl) rfl rfl) ?_
  refine fs_c1 (fs_inv_virtual (pc := 34) (n := 138498132) C (Nat.le_of_ble_eq_true rfl) (Nat.le_of_ble_eq_true rfl) (fs_lk_init (idx := 29) (y := ⟨"BoardMachine$Trees$Press", "<init>", "()V"⟩) (bytes := prog_98_method_1_code) (maxL := 1) (d := 2) C (Nat.le_of_ble_eq_true rfl) (Nat.le_of_ble_eq_true rfl) (by decide +kernel) (kw K hw q594) (kw K hw q319) (kw K hw q593) (Or.inr ⟨_, kM K hw q592⟩) rfl ⟨by decide, by decide⟩ rfl (Nat.le_of_ble_eq_true rfl) (Nat.le_of_ble_eq_true rfl)) fs_con_mono o2) ?_
  refine fs_c1 (fs_putf (pc := 37) (n := 239161430) (idx := 30) (ref := "BoardMachine$Describer") (O := "BoardMachine$Describer") (name := "press") (desc := "LBoardMachine$Trees$Press;") (fin := true) (ty := (.object "BoardMachine$Trees$Press")) C (by decide +kernel) (Or.inr ⟨rfl, kw K hw q609, hnm, rfl⟩) (fun _ h => h) (Nat.le_of_ble_eq_true rfl) (Nat.le_of_ble_eq_true rfl) (Nat.le_of_ble_eq_true rfl) rfl rfl (by decide) (fs_one (⟨rfl, ff_21_57 s0 H0 oa D⟩))) ?_
  exact fs_c0
theorem hX12_init : fe_H (sX12_init) cX12_init [0] fe_kv [] 20 (fun _ => dX12_init FX12_init_0) := by
  intro j pc L st M r hc h
  rcases fe_mem_c hc with rfl | hc
  · obtain ⟨w0, m0, h⟩ := fe_lR_d h
    obtain ⟨rfl, hz⟩ := fe_t0_d h
    exact ⟨[(0, .ref w0)], (fe_cs m0 fe_nl), Or.inr ((bX12_init_0 FX12_init_0 w0 M).symm.trans hz)⟩
  exact fe_mem_0 hc
theorem vX12_init : fe_SB (sX12_init) := by
  refine ⟨?_, ?_, ?_, ?_⟩
  · intro i As M r h
    exact fe_no h
  · intro i As M r h
    exact fe_no h
  · intro i As M r h
    exact fe_no h
  · intro i As M r h
    exact fe_no h
theorem eX12_init (g0 : Nat → FM → Option (FM)) (a0 : Nat) (M : FM) : dX12_init g0 0 [(0, .ref a0)] [] M = g0 a0 M := by rfl
theorem mX12_init (a0 : Nat) (M : FM) (r : FM) (h : FX12_init a0 M = some r) : fm_nx M ≤ fm_nx r ∧ fm_ns M ≤ fm_ns r :=
  fe_mono (L0 := [(0, .ref a0)]) (vX12_init) (by decide +kernel) (hX12_init) (fe_kv_k r) 0 rfl ((eX12_init FX12_init_0 a0 M).trans h)
theorem zX12_init {s0 : State} {H0 : Heap} {oa : Nat → Nat} {D : va_G} (K : fk s0 H0 oa D) (l : Launch) (a0 : Nat) (M : FM) (r : FM) (h : FX12_init a0 M = some r) : fs_Con (fk_E s0 H0 oa D) l 1 ⟨"BoardMachine$Memories$Reservation", "<init>", "()V"⟩ prog_83_method_1_code 1 (Option.none : Option Jvm.ClassFile.FieldType) [.ref a0] M none r := by
  refine fs_method (own := "BoardMachine$Memories$Reservation") rfl (by decide) K.2.1 (by rw [fe_slen]; exact (Nat.le_of_ble_eq_true rfl)) (mX12_init a0 M r h) (hX12_init) 0 rfl (L0 := [(0, .ref a0)]) (fun E => fe_args_e E [.ref a0] 0) ((eX12_init FX12_init_0 a0 M).trans h) (fe_kv_k r) (fun H hR => fs_nr_o (by decide) (by decide)) ?_
  intro p e s m args below meth c Q C hnm
  have hw : s0.WarmedH s.vm := C.2.2.2.2.1
  refine fe_all C fk_hwr cX12_init [1] (by decide +kernel) (fe_fil (cps := [(1, 4, .monitorenter)]) (by decide +kernel) ?_)
  refine fs_c1 (fs_init (pc := 1) (idx := 1) C (by decide +kernel) (kw K hw q640) (kw K hw q441) (kw K hw q442) ⟨(Nat.le_of_ble_eq_true rfl), (Nat.le_of_ble_eq_true rfl)⟩) ?_
  exact fs_c0
theorem hX13_init : fe_H (sX13_init) cX13_init [0] fe_kv [] 20 (fun _ => dX13_init FX13_init_0) := by
  intro j pc L st M r hc h
  rcases fe_mem_c hc with rfl | hc
  · obtain ⟨w0, m0, h⟩ := fe_lR_d h
    obtain ⟨rfl, hz⟩ := fe_t0_d h
    exact ⟨[(0, .ref w0)], (fe_cs m0 fe_nl), Or.inr ((bX13_init_0 FX13_init_0 w0 M).symm.trans hz)⟩
  exact fe_mem_0 hc
theorem vX13_init : fe_SB (sX13_init) := by
  refine ⟨?_, ?_, ?_, ?_⟩
  · intro i As M r h
    exact fe_no h
  · intro i As M r h
    exact fe_no h
  · intro i As M r h
    exact fe_no h
  · intro i As M r h
    exact fe_no h
theorem eX13_init (g0 : Nat → FM → Option (FM)) (a0 : Nat) (M : FM) : dX13_init g0 0 [(0, .ref a0)] [] M = g0 a0 M := by rfl
theorem mX13_init (a0 : Nat) (M : FM) (r : FM) (h : FX13_init a0 M = some r) : fm_nx M ≤ fm_nx r ∧ fm_ns M ≤ fm_ns r :=
  fe_mono (L0 := [(0, .ref a0)]) (vX13_init) (by decide +kernel) (hX13_init) (fe_kv_k r) 0 rfl ((eX13_init FX13_init_0 a0 M).trans h)
theorem zX13_init {s0 : State} {H0 : Heap} {oa : Nat → Nat} {D : va_G} (K : fk s0 H0 oa D) (l : Launch) (a0 : Nat) (M : FM) (r : FM) (h : FX13_init a0 M = some r) : fs_Con (fk_E s0 H0 oa D) l 1 ⟨"BoardMachine$Memories$Change", "<init>", "()V"⟩ prog_79_method_1_code 1 (Option.none : Option Jvm.ClassFile.FieldType) [.ref a0] M none r := by
  refine fs_method (own := "BoardMachine$Memories$Change") rfl (by decide) K.2.1 (by rw [fe_slen]; exact (Nat.le_of_ble_eq_true rfl)) (mX13_init a0 M r h) (hX13_init) 0 rfl (L0 := [(0, .ref a0)]) (fun E => fe_args_e E [.ref a0] 0) ((eX13_init FX13_init_0 a0 M).trans h) (fe_kv_k r) (fun H hR => fs_nr_o (by decide) (by decide)) ?_
  intro p e s m args below meth c Q C hnm
  have hw : s0.WarmedH s.vm := C.2.2.2.2.1
  refine fe_all C fk_hwr cX13_init [1] (by decide +kernel) (fe_fil (cps := [(1, 4, .monitorenter)]) (by decide +kernel) ?_)
  refine fs_c1 (fs_init (pc := 1) (idx := 1) C (by decide +kernel) (kw K hw q657) (kw K hw q441) (kw K hw q442) ⟨(Nat.le_of_ble_eq_true rfl), (Nat.le_of_ble_eq_true rfl)⟩) ?_
  exact fs_c0
theorem hX14_init : fe_H (sX14_init FX13_init) cX14_init [0] fe_kv [] 20 (fun _ => dX14_init FX14_init_0) := by
  intro j pc L st M r hc h
  rcases fe_mem_c hc with rfl | hc
  · obtain ⟨w0, m0, h⟩ := fe_lR_d h
    obtain ⟨rfl, hz⟩ := fe_t0_d h
    exact ⟨[(0, .ref w0)], (fe_cs m0 fe_nl), Or.inr ((bX14_init_0 FX13_init FX14_init_0 w0 M).symm.trans hz)⟩
  exact fe_mem_0 hc
theorem vX14_init : fe_SB (sX14_init FX13_init) := by
  refine ⟨?_, ?_, ?_, ?_⟩
  · intro i As M r h
    rcases fe_bc h with h | h
    · obtain ⟨v0, t0, rfl, g0⟩ := fe_tR_d h
      obtain ⟨rfl, hz⟩ := fe_t0_d g0
      exact mX13_init v0 M r hz
    exact fe_no h
  · intro i As M r h
    exact fe_no h
  · intro i As M r h
    exact fe_no h
  · intro i As M r h
    exact fe_no h
theorem eX14_init (g0 : Nat → FM → Option (FM)) (a0 : Nat) (M : FM) : dX14_init g0 0 [(0, .ref a0)] [] M = g0 a0 M := by rfl
theorem mX14_init (a0 : Nat) (M : FM) (r : FM) (h : FX14_init a0 M = some r) : fm_nx M ≤ fm_nx r ∧ fm_ns M ≤ fm_ns r :=
  fe_mono (L0 := [(0, .ref a0)]) (vX14_init) (by decide +kernel) (hX14_init) (fe_kv_k r) 0 rfl ((eX14_init FX14_init_0 a0 M).trans h)
theorem zX14_init {s0 : State} {H0 : Heap} {oa : Nat → Nat} {D : va_G} (K : fk s0 H0 oa D) (l : Launch) (a0 : Nat) (M : FM) (r : FM) (h : FX14_init a0 M = some r) : fs_Con (fk_E s0 H0 oa D) l 2 ⟨"BoardMachine$Memories$Sum", "<init>", "()V"⟩ prog_84_method_1_code 1 (Option.none : Option Jvm.ClassFile.FieldType) [.ref a0] M none r := by
  have o0 : fs_OS (sX14_init FX13_init) 0 0 (fs_Con (fk_E s0 H0 oa D) l 1 ⟨"BoardMachine$Memories$Change", "<init>", "()V"⟩ prog_79_method_1_code 1 (Option.none : Option Jvm.ClassFile.FieldType)) := by
    intro As M r h
    obtain ⟨v0, t0, rfl, g0⟩ := fe_tR_d h
    obtain ⟨rfl, hz⟩ := fe_t0_d g0
    exact zX13_init K l v0 M r hz
  refine fs_method (own := "BoardMachine$Memories$Sum") rfl (by decide) K.2.1 (by rw [fe_slen]; exact (Nat.le_of_ble_eq_true rfl)) (mX14_init a0 M r h) (hX14_init) 0 rfl (L0 := [(0, .ref a0)]) (fun E => fe_args_e E [.ref a0] 0) ((eX14_init FX14_init_0 a0 M).trans h) (fe_kv_k r) (fun H hR => fs_nr_o (by decide) (by decide)) ?_
  intro p e s m args below meth c Q C hnm
  have hw : s0.WarmedH s.vm := C.2.2.2.2.1
  refine fe_all C fk_hwr cX14_init [1] (by decide +kernel) (fe_fil (cps := [(1, 4, .invokevirtual 4266054)]) (by decide +kernel) ?_)
  refine fs_c1 (fs_inv_virtual (pc := 1) (n := 4266054) C (Nat.le_of_ble_eq_true rfl) (Nat.le_of_ble_eq_true rfl) (fs_lk_init (idx := 1) (y := ⟨"BoardMachine$Memories$Change", "<init>", "()V"⟩) (bytes := prog_79_method_1_code) (maxL := 1) (d := 1) C (Nat.le_of_ble_eq_true rfl) (Nat.le_of_ble_eq_true rfl) (by decide +kernel) (kw K hw q656) (kw K hw q323) (kw K hw q655) (Or.inr ⟨_, kM K hw q654⟩) rfl ⟨by decide, by decide⟩ rfl (Nat.le_of_ble_eq_true rfl) (Nat.le_of_ble_eq_true rfl)) fs_con_mono o0) ?_
  exact fs_c0
theorem hX15_init : fe_H (sX15_init FX13_init) cX15_init [0] fe_kv [] 20 (fun _ => dX15_init FX15_init_0) := by
  intro j pc L st M r hc h
  rcases fe_mem_c hc with rfl | hc
  · obtain ⟨w0, m0, h⟩ := fe_lR_d h
    obtain ⟨rfl, hz⟩ := fe_t0_d h
    exact ⟨[(0, .ref w0)], (fe_cs m0 fe_nl), Or.inr ((bX15_init_0 FX13_init FX15_init_0 w0 M).symm.trans hz)⟩
  exact fe_mem_0 hc
theorem vX15_init : fe_SB (sX15_init FX13_init) := by
  refine ⟨?_, ?_, ?_, ?_⟩
  · intro i As M r h
    rcases fe_bc h with h | h
    · obtain ⟨v0, t0, rfl, g0⟩ := fe_tR_d h
      obtain ⟨rfl, hz⟩ := fe_t0_d g0
      exact mX13_init v0 M r hz
    exact fe_no h
  · intro i As M r h
    exact fe_no h
  · intro i As M r h
    exact fe_no h
  · intro i As M r h
    exact fe_no h
theorem eX15_init (g0 : Nat → FM → Option (FM)) (a0 : Nat) (M : FM) : dX15_init g0 0 [(0, .ref a0)] [] M = g0 a0 M := by rfl
theorem mX15_init (a0 : Nat) (M : FM) (r : FM) (h : FX15_init a0 M = some r) : fm_nx M ≤ fm_nx r ∧ fm_ns M ≤ fm_ns r :=
  fe_mono (L0 := [(0, .ref a0)]) (vX15_init) (by decide +kernel) (hX15_init) (fe_kv_k r) 0 rfl ((eX15_init FX15_init_0 a0 M).trans h)
theorem zX15_init {s0 : State} {H0 : Heap} {oa : Nat → Nat} {D : va_G} (K : fk s0 H0 oa D) (l : Launch) (a0 : Nat) (M : FM) (r : FM) (h : FX15_init a0 M = some r) : fs_Con (fk_E s0 H0 oa D) l 2 ⟨"BoardMachine$Memories$Swap", "<init>", "()V"⟩ prog_85_method_1_code 1 (Option.none : Option Jvm.ClassFile.FieldType) [.ref a0] M none r := by
  have o0 : fs_OS (sX15_init FX13_init) 0 0 (fs_Con (fk_E s0 H0 oa D) l 1 ⟨"BoardMachine$Memories$Change", "<init>", "()V"⟩ prog_79_method_1_code 1 (Option.none : Option Jvm.ClassFile.FieldType)) := by
    intro As M r h
    obtain ⟨v0, t0, rfl, g0⟩ := fe_tR_d h
    obtain ⟨rfl, hz⟩ := fe_t0_d g0
    exact zX13_init K l v0 M r hz
  refine fs_method (own := "BoardMachine$Memories$Swap") rfl (by decide) K.2.1 (by rw [fe_slen]; exact (Nat.le_of_ble_eq_true rfl)) (mX15_init a0 M r h) (hX15_init) 0 rfl (L0 := [(0, .ref a0)]) (fun E => fe_args_e E [.ref a0] 0) ((eX15_init FX15_init_0 a0 M).trans h) (fe_kv_k r) (fun H hR => fs_nr_o (by decide) (by decide)) ?_
  intro p e s m args below meth c Q C hnm
  have hw : s0.WarmedH s.vm := C.2.2.2.2.1
  refine fe_all C fk_hwr cX15_init [1] (by decide +kernel) (fe_fil (cps := [(1, 4, .invokevirtual 4267079)]) (by decide +kernel) ?_)
  refine fs_c1 (fs_inv_virtual (pc := 1) (n := 4267079) C (Nat.le_of_ble_eq_true rfl) (Nat.le_of_ble_eq_true rfl) (fs_lk_init (idx := 1) (y := ⟨"BoardMachine$Memories$Change", "<init>", "()V"⟩) (bytes := prog_79_method_1_code) (maxL := 1) (d := 1) C (Nat.le_of_ble_eq_true rfl) (Nat.le_of_ble_eq_true rfl) (by decide +kernel) (kw K hw q656) (kw K hw q323) (kw K hw q655) (Or.inr ⟨_, kM K hw q664⟩) rfl ⟨by decide, by decide⟩ rfl (Nat.le_of_ble_eq_true rfl) (Nat.le_of_ble_eq_true rfl)) fs_con_mono o0) ?_
  exact fs_c0
theorem hX16_init : fe_H (sX16_init FX13_init) cX16_init [0] fe_kv [] 20 (fun _ => dX16_init FX16_init_0) := by
  intro j pc L st M r hc h
  rcases fe_mem_c hc with rfl | hc
  · obtain ⟨w0, m0, h⟩ := fe_lR_d h
    obtain ⟨w1, m1, h⟩ := fe_lI_d h
    obtain ⟨rfl, hz⟩ := fe_t0_d h
    exact ⟨[(0, .ref w0), (1, .int w1)], (fe_cs m0 (fe_cs m1 fe_nl)), Or.inr ((bX16_init_0 FX13_init FX16_init_0 w0 w1 M).symm.trans hz)⟩
  exact fe_mem_0 hc
theorem vX16_init : fe_SB (sX16_init FX13_init) := by
  refine ⟨?_, ?_, ?_, ?_⟩
  · intro i As M r h
    rcases fe_bc h with h | h
    · obtain ⟨v0, t0, rfl, g0⟩ := fe_tR_d h
      obtain ⟨rfl, hz⟩ := fe_t0_d g0
      exact mX13_init v0 M r hz
    exact fe_no h
  · intro i As M r h
    exact fe_no h
  · intro i As M r h
    exact fe_no h
  · intro i As M r h
    exact fe_no h
theorem eX16_init (g0 : Nat → Int32 → FM → Option (FM)) (a0 : Nat) (a1 : Int32) (M : FM) : dX16_init g0 0 [(0, .ref a0), (1, .int a1)] [] M = g0 a0 a1 M := by rfl
theorem mX16_init (a0 : Nat) (a1 : Int32) (M : FM) (r : FM) (h : FX16_init a0 a1 M = some r) : fm_nx M ≤ fm_nx r ∧ fm_ns M ≤ fm_ns r :=
  fe_mono (L0 := [(0, .ref a0), (1, .int a1)]) (vX16_init) (by decide +kernel) (hX16_init) (fe_kv_k r) 0 rfl ((eX16_init FX16_init_0 a0 a1 M).trans h)
theorem zX16_init {s0 : State} {H0 : Heap} {oa : Nat → Nat} {D : va_G} (K : fk s0 H0 oa D) (l : Launch) (a0 : Nat) (a1 : Int32) (M : FM) (r : FM) (h : FX16_init a0 a1 M = some r) : fs_Con (fk_E s0 H0 oa D) l 2 ⟨"BoardMachine$Memories$Bits", "<init>", "(I)V"⟩ prog_78_method_1_code 2 (Option.none : Option Jvm.ClassFile.FieldType) [.ref a0, .int a1] M none r := by
  have o0 : fs_OS (sX16_init FX13_init) 0 0 (fs_Con (fk_E s0 H0 oa D) l 1 ⟨"BoardMachine$Memories$Change", "<init>", "()V"⟩ prog_79_method_1_code 1 (Option.none : Option Jvm.ClassFile.FieldType)) := by
    intro As M r h
    obtain ⟨v0, t0, rfl, g0⟩ := fe_tR_d h
    obtain ⟨rfl, hz⟩ := fe_t0_d g0
    exact zX13_init K l v0 M r hz
  refine fs_method (own := "BoardMachine$Memories$Bits") rfl (by decide) K.2.1 (by rw [fe_slen]; exact (Nat.le_of_ble_eq_true rfl)) (mX16_init a0 a1 M r h) (hX16_init) 0 rfl (L0 := [(0, .ref a0), (1, .int a1)]) (fun E => fe_args_e E [.ref a0, .int a1] 0) ((eX16_init FX16_init_0 a0 a1 M).trans h) (fe_kv_k r) (fun H hR => fs_nr_o (by decide) (by decide)) ?_
  intro p e s m args below meth c Q C hnm
  have hw : s0.WarmedH s.vm := C.2.2.2.2.1
  refine fe_all C fk_hwr cX16_init [1, 6] (by decide +kernel) (fe_fil (cps := [(1, 4, .invokevirtual 4264004), (6, 9, .putfield 830750992)]) (by decide +kernel) ?_)
  refine fs_c1 (fs_inv_virtual (pc := 1) (n := 4264004) C (Nat.le_of_ble_eq_true rfl) (Nat.le_of_ble_eq_true rfl) (fs_lk_init (idx := 1) (y := ⟨"BoardMachine$Memories$Change", "<init>", "()V"⟩) (bytes := prog_79_method_1_code) (maxL := 1) (d := 1) C (Nat.le_of_ble_eq_true rfl) (Nat.le_of_ble_eq_true rfl) (by decide +kernel) (kw K hw q656) (kw K hw q323) (kw K hw q655) (Or.inr ⟨_, kM K hw q671⟩) rfl ⟨by decide, by decide⟩ rfl (Nat.le_of_ble_eq_true rfl) (Nat.le_of_ble_eq_true rfl)) fs_con_mono o0) ?_
  refine fs_c1 (fs_putf (pc := 6) (n := 830750992) (idx := 7) (ref := "BoardMachine$Memories$Bits") (O := "BoardMachine$Memories$Bits") (name := "table") (desc := "I") (fin := true) (ty := .int) C (by decide +kernel) (Or.inr ⟨rfl, kw K hw q672, hnm, rfl⟩) (fun _ h => h) (Nat.le_of_ble_eq_true rfl) (Nat.le_of_ble_eq_true rfl) (Nat.le_of_ble_eq_true rfl) rfl rfl (by decide) (fs_one (⟨rfl, ff_68_198 s0 H0 oa D⟩))) ?_
  exact fs_c0
theorem hX17_init : fe_H (sX17_init FX13_init) cX17_init [0, 21] fe_kv [] 20 (fun _ => dX17_init FX17_init_0 FX17_init_21) := by
  intro j pc L st M r hc h
  rcases fe_mem_c hc with rfl | hc
  · obtain ⟨w0, m0, h⟩ := fe_lR_d h
    obtain ⟨w1, m1, h⟩ := fe_lI_d h
    obtain ⟨w2, m2, h⟩ := fe_lI_d h
    obtain ⟨rfl, hz⟩ := fe_t0_d h
    exact ⟨[(0, .ref w0), (1, .int w1), (2, .int w2)], (fe_cs m0 (fe_cs m1 (fe_cs m2 fe_nl))), Or.inr ((bX17_init_0 FX13_init FX17_init_0 FX17_init_21 w0 w1 w2 M).symm.trans hz)⟩
  rcases fe_mem_c hc with rfl | hc
  · obtain ⟨s1, t1, rfl, g1⟩ := fe_tL_d h
    obtain ⟨s0, t0, rfl, g0⟩ := fe_tR_d g1
    obtain ⟨rfl, hz⟩ := fe_t0_d g0
    exact ⟨[], fe_nl, Or.inr ((bX17_init_21 FX13_init FX17_init_0 FX17_init_21 s0 s1 M).symm.trans hz)⟩
  exact fe_mem_0 hc
theorem vX17_init : fe_SB (sX17_init FX13_init) := by
  refine ⟨?_, ?_, ?_, ?_⟩
  · intro i As M r h
    rcases fe_bc h with h | h
    · obtain ⟨v0, t0, rfl, g0⟩ := fe_tR_d h
      obtain ⟨rfl, hz⟩ := fe_t0_d g0
      exact mX13_init v0 M r hz
    exact fe_no h
  · intro i As M r h
    exact fe_no h
  · intro i As M r h
    exact fe_no h
  · intro i As M r h
    exact fe_no h
theorem eX17_init (g0 : Nat → Int32 → Int32 → FM → Option (FM)) (g21 : Nat → Int64 → FM → Option (FM)) (a0 : Nat) (a1 : Int32) (a2 : Int32) (M : FM) : dX17_init g0 g21 0 [(0, .ref a0), (1, .int a1), (2, .int a2)] [] M = g0 a0 a1 a2 M := by rfl
theorem mX17_init (a0 : Nat) (a1 : Int32) (a2 : Int32) (M : FM) (r : FM) (h : FX17_init a0 a1 a2 M = some r) : fm_nx M ≤ fm_nx r ∧ fm_ns M ≤ fm_ns r :=
  fe_mono (L0 := [(0, .ref a0), (1, .int a1), (2, .int a2)]) (vX17_init) (by decide +kernel) (hX17_init) (fe_kv_k r) 0 rfl ((eX17_init FX17_init_0 FX17_init_21 a0 a1 a2 M).trans h)
theorem zX17_init {s0 : State} {H0 : Heap} {oa : Nat → Nat} {D : va_G} (K : fk s0 H0 oa D) (l : Launch) (a0 : Nat) (a1 : Int32) (a2 : Int32) (M : FM) (r : FM) (h : FX17_init a0 a1 a2 M = some r) : fs_Con (fk_E s0 H0 oa D) l 2 ⟨"BoardMachine$Memories$Extreme", "<init>", "(ZZ)V"⟩ prog_80_method_1_code 3 (Option.none : Option Jvm.ClassFile.FieldType) [.ref a0, .int a1, .int a2] M none r := by
  have o0 : fs_OS (sX17_init FX13_init) 0 0 (fs_Con (fk_E s0 H0 oa D) l 1 ⟨"BoardMachine$Memories$Change", "<init>", "()V"⟩ prog_79_method_1_code 1 (Option.none : Option Jvm.ClassFile.FieldType)) := by
    intro As M r h
    obtain ⟨v0, t0, rfl, g0⟩ := fe_tR_d h
    obtain ⟨rfl, hz⟩ := fe_t0_d g0
    exact zX13_init K l v0 M r hz
  refine fs_method (own := "BoardMachine$Memories$Extreme") rfl (by decide) K.2.1 (by rw [fe_slen]; exact (Nat.le_of_ble_eq_true rfl)) (mX17_init a0 a1 a2 M r h) (hX17_init) 0 rfl (L0 := [(0, .ref a0), (1, .int a1), (2, .int a2)]) (fun E => fe_args_e E [.ref a0, .int a1, .int a2] 0) ((eX17_init FX17_init_0 FX17_init_21 a0 a1 a2 M).trans h) (fe_kv_k r) (fun H hR => fs_nr_o (by decide) (by decide)) ?_
  intro p e s m args below meth c Q C hnm
  have hw : s0.WarmedH s.vm := C.2.2.2.2.1
  refine fe_all C fk_hwr cX17_init [1, 6, 18, 21] (by decide +kernel) (fe_fil (cps := [(1, 4, .invokevirtual 4265029), (6, 9, .putfield 834949399), (18, 21, .jsr_w (-9223372036854775808)), (21, 24, .putfield 839143701)]) (by decide +kernel) ?_)
  refine fs_c1 (fs_inv_virtual (pc := 1) (n := 4265029) C (Nat.le_of_ble_eq_true rfl) (Nat.le_of_ble_eq_true rfl) (fs_lk_init (idx := 1) (y := ⟨"BoardMachine$Memories$Change", "<init>", "()V"⟩) (bytes := prog_79_method_1_code) (maxL := 1) (d := 1) C (Nat.le_of_ble_eq_true rfl) (Nat.le_of_ble_eq_true rfl) (by decide +kernel) (kw K hw q656) (kw K hw q323) (kw K hw q655) (Or.inr ⟨_, kM K hw q681⟩) rfl ⟨by decide, by decide⟩ rfl (Nat.le_of_ble_eq_true rfl) (Nat.le_of_ble_eq_true rfl)) fs_con_mono o0) ?_
  refine fs_c1 (fs_putf (pc := 6) (n := 834949399) (idx := 7) (ref := "BoardMachine$Memories$Extreme") (O := "BoardMachine$Memories$Extreme") (name := "least") (desc := "Z") (fin := true) (ty := .boolean) C (by decide +kernel) (Or.inr ⟨rfl, kw K hw q683, hnm, rfl⟩) (fun _ h => h) (Nat.le_of_ble_eq_true rfl) (Nat.le_of_ble_eq_true rfl) (Nat.le_of_ble_eq_true rfl) rfl rfl (by decide) (fs_one (⟨rfl, ff_69_199 s0 H0 oa D⟩))) ?_
  refine fs_c1 (fs_ldcl (pc := 18) (idx := 15) (v := -9223372036854775808) C (by decide +kernel) (kw K hw q682)) ?_
  refine fs_c1 (fs_putf (pc := 21) (n := 839143701) (idx := 17) (ref := "BoardMachine$Memories$Extreme") (O := "BoardMachine$Memories$Extreme") (name := "turn") (desc := "J") (fin := true) (ty := .long) C (by decide +kernel) (Or.inr ⟨rfl, kw K hw q684, hnm, rfl⟩) (fun _ h => h) (Nat.le_of_ble_eq_true rfl) (Nat.le_of_ble_eq_true rfl) (Nat.le_of_ble_eq_true rfl) rfl rfl (by decide) (fs_one (⟨rfl, ff_69_200 s0 H0 oa D⟩))) ?_
  exact fs_c0
theorem hX11_init (n : Nat) : fe_H (sX11_init FX12_init FX14_init FX15_init FX16_init FX17_init) cX11_init [0, 47] fe_kv [47] 115 (fun j => dX11_init (FX11_init_0 n (FX11_init_L47 n j)) (FX11_init_L47 n j)) := by
  intro j pc L st M r hc h
  rcases fe_mem_c hc with rfl | hc
  · obtain ⟨w0, m0, h⟩ := fe_lR_d h
    obtain ⟨w1, m1, h⟩ := fe_lI_d h
    obtain ⟨rfl, hz⟩ := fe_t0_d h
    exact ⟨[(0, .ref w0), (1, .int w1)], (fe_cs m0 (fe_cs m1 fe_nl)), Or.inr ((bX11_init_0 FX12_init FX14_init FX15_init FX16_init FX17_init (FX11_init_0 n (FX11_init_L47 n j)) (FX11_init_L47 n j) w0 w1 M).symm.trans hz)⟩
  rcases fe_mem_c hc with rfl | hc
  · obtain ⟨w0, m0, h⟩ := fe_lR_d h
    obtain ⟨w2, m2, h⟩ := fe_lI_d h
    obtain ⟨rfl, hz⟩ := fe_t0_d h
    cases j with
    | zero => exact fe_no hz
    | succ j => exact ⟨[(0, .ref w0), (2, .int w2)], (fe_cs m0 (fe_cs m2 fe_nl)), Or.inl ⟨j, rfl, (bX11_init_47 FX12_init FX14_init FX15_init FX16_init FX17_init (FX11_init_0 n (FX11_init_L47 n j)) (FX11_init_L47 n j) w0 w2 M).symm.trans hz⟩⟩
  exact fe_mem_0 hc
theorem vX11_init (n : Nat) : fe_SB (sX11_init FX12_init FX14_init FX15_init FX16_init FX17_init) := by
  refine ⟨?_, ?_, ?_, ?_⟩
  · intro i As M r h
    rcases fe_bc h with h | h
    · obtain ⟨v0, t0, rfl, g0⟩ := fe_tR_d h
      obtain ⟨rfl, hz⟩ := fe_t0_d g0
      exact mX12_init v0 M r hz
    rcases fe_bc h with h | h
    · obtain ⟨v0, t0, rfl, g0⟩ := fe_tR_d h
      obtain ⟨rfl, hz⟩ := fe_t0_d g0
      exact mX14_init v0 M r hz
    rcases fe_bc h with h | h
    · obtain ⟨v0, t0, rfl, g0⟩ := fe_tR_d h
      obtain ⟨rfl, hz⟩ := fe_t0_d g0
      exact mX15_init v0 M r hz
    rcases fe_bc h with h | h
    · obtain ⟨v0, t0, rfl, g0⟩ := fe_tR_d h
      obtain ⟨v1, t1, rfl, g1⟩ := fe_tI_d g0
      obtain ⟨rfl, hz⟩ := fe_t0_d g1
      exact mX16_init v0 v1 M r hz
    rcases fe_bc h with h | h
    · obtain ⟨v0, t0, rfl, g0⟩ := fe_tR_d h
      obtain ⟨v1, t1, rfl, g1⟩ := fe_tI_d g0
      obtain ⟨v2, t2, rfl, g2⟩ := fe_tI_d g1
      obtain ⟨rfl, hz⟩ := fe_t0_d g2
      exact mX17_init v0 v1 v2 M r hz
    exact fe_no h
  · intro i As M r h
    exact fe_no h
  · intro i As M r h
    exact fe_no h
  · intro i As M r h
    exact fe_no h
theorem eX11_init (g0 : Nat → Int32 → FM → Option (FM)) (k47 : Nat → Int32 → FM → Option (FM)) (a0 : Nat) (a1 : Int32) (M : FM) : dX11_init g0 k47 0 [(0, .ref a0), (1, .int a1)] [] M = g0 a0 a1 M := by rfl
theorem mX11_init (n : Nat) (a0 : Nat) (a1 : Int32) (M : FM) (r : FM) (h : FX11_init n a0 a1 M = some r) : fm_nx M ≤ fm_nx r ∧ fm_ns M ≤ fm_ns r :=
  fe_mono (L0 := [(0, .ref a0), (1, .int a1)]) (vX11_init n) (by decide +kernel) (hX11_init n) (fe_kv_k r) n rfl ((eX11_init (FX11_init_0 n (FX11_init_L47 n n)) (FX11_init_L47 n n) a0 a1 M).trans h)
theorem zX11_init {s0 : State} {H0 : Heap} {oa : Nat → Nat} {D : va_G} (K : fk s0 H0 oa D) (l : Launch) (n : Nat) (a0 : Nat) (a1 : Int32) (M : FM) (r : FM) (h : FX11_init n a0 a1 M = some r) : fs_Con (fk_E s0 H0 oa D) l 3 ⟨"BoardMachine$Memories$Ram", "<init>", "(I)V"⟩ prog_82_method_1_code 3 (Option.none : Option Jvm.ClassFile.FieldType) [.ref a0, .int a1] M none r := by
  have o0 : fs_OS (sX11_init FX12_init FX14_init FX15_init FX16_init FX17_init) 0 0 (fs_Con (fk_E s0 H0 oa D) l 1 ⟨"BoardMachine$Memories$Reservation", "<init>", "()V"⟩ prog_83_method_1_code 1 (Option.none : Option Jvm.ClassFile.FieldType)) := by
    intro As M r h
    obtain ⟨v0, t0, rfl, g0⟩ := fe_tR_d h
    obtain ⟨rfl, hz⟩ := fe_t0_d g0
    exact zX12_init K l v0 M r hz
  have o1 : fs_OS (sX11_init FX12_init FX14_init FX15_init FX16_init FX17_init) 1 0 (fs_Con (fk_E s0 H0 oa D) l 2 ⟨"BoardMachine$Memories$Sum", "<init>", "()V"⟩ prog_84_method_1_code 1 (Option.none : Option Jvm.ClassFile.FieldType)) := by
    intro As M r h
    obtain ⟨v0, t0, rfl, g0⟩ := fe_tR_d h
    obtain ⟨rfl, hz⟩ := fe_t0_d g0
    exact zX14_init K l v0 M r hz
  have o2 : fs_OS (sX11_init FX12_init FX14_init FX15_init FX16_init FX17_init) 2 0 (fs_Con (fk_E s0 H0 oa D) l 2 ⟨"BoardMachine$Memories$Swap", "<init>", "()V"⟩ prog_85_method_1_code 1 (Option.none : Option Jvm.ClassFile.FieldType)) := by
    intro As M r h
    obtain ⟨v0, t0, rfl, g0⟩ := fe_tR_d h
    obtain ⟨rfl, hz⟩ := fe_t0_d g0
    exact zX15_init K l v0 M r hz
  have o3 : fs_OS (sX11_init FX12_init FX14_init FX15_init FX16_init FX17_init) 3 0 (fs_Con (fk_E s0 H0 oa D) l 2 ⟨"BoardMachine$Memories$Bits", "<init>", "(I)V"⟩ prog_78_method_1_code 2 (Option.none : Option Jvm.ClassFile.FieldType)) := by
    intro As M r h
    obtain ⟨v0, t0, rfl, g0⟩ := fe_tR_d h
    obtain ⟨v1, t1, rfl, g1⟩ := fe_tI_d g0
    obtain ⟨rfl, hz⟩ := fe_t0_d g1
    exact zX16_init K l v0 v1 M r hz
  have o4 : fs_OS (sX11_init FX12_init FX14_init FX15_init FX16_init FX17_init) 4 0 (fs_Con (fk_E s0 H0 oa D) l 2 ⟨"BoardMachine$Memories$Extreme", "<init>", "(ZZ)V"⟩ prog_80_method_1_code 3 (Option.none : Option Jvm.ClassFile.FieldType)) := by
    intro As M r h
    obtain ⟨v0, t0, rfl, g0⟩ := fe_tR_d h
    obtain ⟨v1, t1, rfl, g1⟩ := fe_tI_d g0
    obtain ⟨v2, t2, rfl, g2⟩ := fe_tI_d g1
    obtain ⟨rfl, hz⟩ := fe_t0_d g2
    exact zX17_init K l v0 v1 v2 M r hz
  refine fs_method (own := "BoardMachine$Memories$Ram") rfl (by decide) K.2.1 (by rw [fe_slen]; exact (Nat.le_of_ble_eq_true rfl)) (mX11_init n a0 a1 M r h) (hX11_init n) n rfl (L0 := [(0, .ref a0), (1, .int a1)]) (fun E => fe_args_e E [.ref a0, .int a1] 0) ((eX11_init (FX11_init_0 n (FX11_init_L47 n n)) (FX11_init_L47 n n) a0 a1 M).trans h) (fe_kv_k r) (fun H hR => fs_nr_o (by decide) (by decide)) ?_
  intro p e s m args below meth c Q C hnm
  have hw : s0.WarmedH s.vm := C.2.2.2.2.1
  refine fe_all C fk_hwr cX11_init [1, 8, 11, 18, 20, 25, 28, 34, 37, 42, 53, 57, 61, 64, 72, 76, 80, 83, 85, 89, 93, 96, 98, 102, 108, 111, 113, 118, 124, 127, 129, 134, 140, 143, 145, 150, 156, 159, 161, 166, 172, 175, 177, 182, 188, 191, 193, 198, 204, 207] (by decide +kernel) (fe_fil (cps := [(1, 4, .monitorenter), (8, 11, .anewarray 208792), (11, 14, .putfield 851743014), (18, 20, .anewarray 209798), (20, 23, .putfield 855937318), (25, 28, .anewarray 210841), (28, 31, .putfield 860131622), (34, 37, .anewarray 211863), (37, 40, .putfield 864325926), (42, 45, .putfield 847548708), (53, 56, .getfield 860131622), (57, 60, .new 4738), (61, 64, .invokevirtual 4270154), (64, 65, .instanceof 965814346), (72, 75, .getfield 864325926), (76, 79, .new 4480), (80, 83, .invokevirtual 71374918), (83, 84, .instanceof 963711047), (85, 88, .getfield 864325926), (89, 92, .new 4544), (93, 96, .invokevirtual 138484807), (96, 97, .instanceof 963711047), (98, 101, .getfield 864325926), (102, 105, .new 4353), (108, 111, .invokevirtual 209784900), (111, 112, .instanceof 963711047), (113, 116, .getfield 864325926), (118, 121, .new 4353), (124, 127, .invokevirtual 209784900), (127, 128, .instanceof 963711047), (129, 132, .getfield 864325926), (134, 137, .new 4353), (140, 143, .invokevirtual 209784900), (143, 144, .instanceof 963711047), (145, 148, .getfield 864325926), (150, 153, .new 4418), (156, 159, .invokevirtual 281089093), (159, 160, .instanceof 963711047), (161, 164, .getfield 864325926), (166, 169, .new 4418), (172, 175, .invokevirtual 281089093), (175, 176, .instanceof 963711047), (177, 180, .getfield 864325926), (182, 185, .new 4418), (188, 191, .invokevirtual 281089093), (191, 192, .instanceof 963711047), (193, 196, .getfield 864325926), (198, 201, .new 4418), (204, 207, .invokevirtual 281089093), (207, 208, .instanceof 963711047)]) (by decide +kernel) ?_)
  refine fs_c1 (fs_init (pc := 1) (idx := 3) C (by decide +kernel) (kw K hw q629) (kw K hw q441) (kw K hw q442) ⟨(Nat.le_of_ble_eq_true rfl), (Nat.le_of_ble_eq_true rfl)⟩) ?_
  refine fs_c1 (fs_newr (pc := 8) (n := 208792) (t := 920) (idx := 9) (CC := "BoardMachine$Memories$Page") C (by decide +kernel) (kw K hw q630) (kO K hw q631) rfl (Nat.le_of_ble_eq_true rfl) rfl rfl) ?_
  refine fs_c1 (fs_putf (pc := 11) (n := 851743014) (idx := 11) (ref := "BoardMachine$Memories$Ram") (O := "BoardMachine$Memories$Ram") (name := "pages") (desc := "[LBoardMachine$Memories$Page;") (fin := true) (ty := (.array (.object "BoardMachine$Memories$Page"))) C (by decide +kernel) (Or.inr ⟨rfl, kw K hw q691, hnm, rfl⟩) (fun _ h => h) (Nat.le_of_ble_eq_true rfl) (Nat.le_of_ble_eq_true rfl) (Nat.le_of_ble_eq_true rfl) rfl rfl (by decide) (fs_one (⟨rfl, ff_73_203 s0 H0 oa D⟩))) ?_
  refine fs_c1 (fs_newL (pc := 18) (n := 209798) C (by decide +kernel) (kw K hw q648) rfl rfl) ?_
  refine fs_c1 (fs_putf (pc := 20) (n := 855937318) (idx := 17) (ref := "BoardMachine$Memories$Ram") (O := "BoardMachine$Memories$Ram") (name := "writes") (desc := "[J") (fin := true) (ty := (.array .long)) C (by decide +kernel) (Or.inr ⟨rfl, kw K hw q692, hnm, rfl⟩) (fun _ h => h) (Nat.le_of_ble_eq_true rfl) (Nat.le_of_ble_eq_true rfl) (Nat.le_of_ble_eq_true rfl) rfl rfl (by decide) (fs_one (⟨rfl, ff_73_204 s0 H0 oa D⟩))) ?_
  refine fs_c1 (fs_newr (pc := 25) (n := 210841) (t := 921) (idx := 21) (CC := "BoardMachine$Memories$Reservation") C (by decide +kernel) (kw K hw q632) (kO K hw q633) rfl (Nat.le_of_ble_eq_true rfl) rfl rfl) ?_
  refine fs_c1 (fs_putf (pc := 28) (n := 860131622) (idx := 23) (ref := "BoardMachine$Memories$Ram") (O := "BoardMachine$Memories$Ram") (name := "reservations") (desc := "[LBoardMachine$Memories$Reservation;") (fin := true) (ty := (.array (.object "BoardMachine$Memories$Reservation"))) C (by decide +kernel) (Or.inr ⟨rfl, kw K hw q695, hnm, rfl⟩) (fun _ h => h) (Nat.le_of_ble_eq_true rfl) (Nat.le_of_ble_eq_true rfl) (Nat.le_of_ble_eq_true rfl) rfl rfl (by decide) (fs_one (⟨rfl, ff_73_205 s0 H0 oa D⟩))) ?_
  refine fs_c1 (fs_newr (pc := 34) (n := 211863) (t := 919) (idx := 27) (CC := "BoardMachine$Memories$Change") C (by decide +kernel) (kw K hw q634) (kO K hw q635) rfl (Nat.le_of_ble_eq_true rfl) rfl rfl) ?_
  refine fs_c1 (fs_putf (pc := 37) (n := 864325926) (idx := 29) (ref := "BoardMachine$Memories$Ram") (O := "BoardMachine$Memories$Ram") (name := "changes") (desc := "[LBoardMachine$Memories$Change;") (fin := true) (ty := (.array (.object "BoardMachine$Memories$Change"))) C (by decide +kernel) (Or.inr ⟨rfl, kw K hw q697, hnm, rfl⟩) (fun _ h => h) (Nat.le_of_ble_eq_true rfl) (Nat.le_of_ble_eq_true rfl) (Nat.le_of_ble_eq_true rfl) rfl rfl (by decide) (fs_one (⟨rfl, ff_73_206 s0 H0 oa D⟩))) ?_
  refine fs_c1 (fs_putf (pc := 42) (n := 847548708) (idx := 33) (ref := "BoardMachine$Memories$Ram") (O := "BoardMachine$Memories$Ram") (name := "many") (desc := "I") (fin := true) (ty := .int) C (by decide +kernel) (Or.inr ⟨rfl, kw K hw q690, hnm, rfl⟩) (fun _ h => h) (Nat.le_of_ble_eq_true rfl) (Nat.le_of_ble_eq_true rfl) (Nat.le_of_ble_eq_true rfl) rfl rfl (by decide) (fs_one (⟨rfl, ff_73_202 s0 H0 oa D⟩))) ?_
  refine fs_c1 (fs_getf (pc := 53) (n := 860131622) (idx := 23) (ref := "BoardMachine$Memories$Ram") (O := "BoardMachine$Memories$Ram") (name := "reservations") (desc := "[LBoardMachine$Memories$Reservation;") C (by decide +kernel) (Or.inl (kw K hw q695)) (fun _ h => h) (Nat.le_of_ble_eq_true rfl) (Nat.le_of_ble_eq_true rfl) (fs_one (⟨_, ff_73_205 s0 H0 oa D⟩))) ?_
  refine fs_c1 (fs_newo (pc := 57) (n := 4738) (idx := 21) (CC := "BoardMachine$Memories$Reservation") (T := fT_74) (N := 2) C (by decide +kernel) (kw K hw q632) (kw K hw q636) (kw K hw q322) (by decide) (Nat.le_of_ble_eq_true rfl) rfl rfl) ?_
  refine fs_c1 (fs_inv_virtual (pc := 61) (n := 4270154) C (Nat.le_of_ble_eq_true rfl) (Nat.le_of_ble_eq_true rfl) (fs_lk_init (idx := 37) (y := ⟨"BoardMachine$Memories$Reservation", "<init>", "()V"⟩) (bytes := prog_83_method_1_code) (maxL := 1) (d := 1) C (Nat.le_of_ble_eq_true rfl) (Nat.le_of_ble_eq_true rfl) (by decide +kernel) (kw K hw q639) (kw K hw q322) (kw K hw q638) (Or.inr ⟨_, kM K hw q637⟩) rfl ⟨by decide, by decide⟩ rfl (Nat.le_of_ble_eq_true rfl) (Nat.le_of_ble_eq_true rfl)) fs_con_mono o0) ?_
  refine fs_c1 (fs_astr (pc := 64) (n := 965814346) (EE := "BoardMachine$Memories$Reservation") C (by decide +kernel) (Nat.le_of_ble_eq_true rfl) rfl rfl (Nat.le_of_ble_eq_true rfl) (Nat.le_of_ble_eq_true rfl) (fs_one (⟨_, rfl, Or.inl rfl⟩))) ?_
  refine fs_c1 (fs_getf (pc := 72) (n := 864325926) (idx := 29) (ref := "BoardMachine$Memories$Ram") (O := "BoardMachine$Memories$Ram") (name := "changes") (desc := "[LBoardMachine$Memories$Change;") C (by decide +kernel) (Or.inl (kw K hw q697)) (fun _ h => h) (Nat.le_of_ble_eq_true rfl) (Nat.le_of_ble_eq_true rfl) (fs_one (⟨_, ff_73_206 s0 H0 oa D⟩))) ?_
  refine fs_c1 (fs_newo (pc := 76) (n := 4480) (idx := 38) (CC := "BoardMachine$Memories$Sum") (T := fT_70) (N := 0) C (by decide +kernel) (kw K hw q649) (kw K hw q650) (kw K hw q324) (by decide) (Nat.le_of_ble_eq_true rfl) rfl rfl) ?_
  refine fs_c1 (fs_inv_virtual (pc := 80) (n := 71374918) C (Nat.le_of_ble_eq_true rfl) (Nat.le_of_ble_eq_true rfl) (fs_lk_init (idx := 40) (y := ⟨"BoardMachine$Memories$Sum", "<init>", "()V"⟩) (bytes := prog_84_method_1_code) (maxL := 1) (d := 2) C (Nat.le_of_ble_eq_true rfl) (Nat.le_of_ble_eq_true rfl) (by decide +kernel) (kw K hw q653) (kw K hw q324) (kw K hw q652) (Or.inr ⟨_, kM K hw q651⟩) rfl ⟨by decide, by decide⟩ rfl (Nat.le_of_ble_eq_true rfl) (Nat.le_of_ble_eq_true rfl)) fs_con_mono o1) ?_
  refine fs_c1 (fs_astr (pc := 83) (n := 963711047) (EE := "BoardMachine$Memories$Change") C (by decide +kernel) (Nat.le_of_ble_eq_true rfl) rfl rfl (Nat.le_of_ble_eq_true rfl) (Nat.le_of_ble_eq_true rfl) (fs_rc (⟨_, rfl, Or.inr (kC K hw q6524)⟩) (fs_rc (⟨_, rfl, Or.inr (kC K hw q6525)⟩) (fs_rc (⟨_, rfl, Or.inr (kC K hw q6526)⟩) (fs_one (⟨_, rfl, Or.inr (kC K hw q6527)⟩)))))) ?_
  refine fs_c1 (fs_getf (pc := 85) (n := 864325926) (idx := 29) (ref := "BoardMachine$Memories$Ram") (O := "BoardMachine$Memories$Ram") (name := "changes") (desc := "[LBoardMachine$Memories$Change;") C (by decide +kernel) (Or.inl (kw K hw q697)) (fun _ h => h) (Nat.le_of_ble_eq_true rfl) (Nat.le_of_ble_eq_true rfl) (fs_one (⟨_, ff_73_206 s0 H0 oa D⟩))) ?_
  refine fs_c1 (fs_newo (pc := 89) (n := 4544) (idx := 41) (CC := "BoardMachine$Memories$Swap") (T := fT_71) (N := 0) C (by decide +kernel) (kw K hw q659) (kw K hw q660) (kw K hw q325) (by decide) (Nat.le_of_ble_eq_true rfl) rfl rfl) ?_
  refine fs_c1 (fs_inv_virtual (pc := 93) (n := 138484807) C (Nat.le_of_ble_eq_true rfl) (Nat.le_of_ble_eq_true rfl) (fs_lk_init (idx := 43) (y := ⟨"BoardMachine$Memories$Swap", "<init>", "()V"⟩) (bytes := prog_85_method_1_code) (maxL := 1) (d := 2) C (Nat.le_of_ble_eq_true rfl) (Nat.le_of_ble_eq_true rfl) (by decide +kernel) (kw K hw q663) (kw K hw q325) (kw K hw q662) (Or.inr ⟨_, kM K hw q661⟩) rfl ⟨by decide, by decide⟩ rfl (Nat.le_of_ble_eq_true rfl) (Nat.le_of_ble_eq_true rfl)) fs_con_mono o2) ?_
  refine fs_c1 (fs_astr (pc := 96) (n := 963711047) (EE := "BoardMachine$Memories$Change") C (by decide +kernel) (Nat.le_of_ble_eq_true rfl) rfl rfl (Nat.le_of_ble_eq_true rfl) (Nat.le_of_ble_eq_true rfl) (fs_rc (⟨_, rfl, Or.inr (kC K hw q6524)⟩) (fs_rc (⟨_, rfl, Or.inr (kC K hw q6525)⟩) (fs_rc (⟨_, rfl, Or.inr (kC K hw q6526)⟩) (fs_one (⟨_, rfl, Or.inr (kC K hw q6527)⟩)))))) ?_
  refine fs_c1 (fs_getf (pc := 98) (n := 864325926) (idx := 29) (ref := "BoardMachine$Memories$Ram") (O := "BoardMachine$Memories$Ram") (name := "changes") (desc := "[LBoardMachine$Memories$Change;") C (by decide +kernel) (Or.inl (kw K hw q697)) (fun _ h => h) (Nat.le_of_ble_eq_true rfl) (Nat.le_of_ble_eq_true rfl) (fs_one (⟨_, ff_73_206 s0 H0 oa D⟩))) ?_
  refine fs_c1 (fs_newo (pc := 102) (n := 4353) (idx := 44) (CC := "BoardMachine$Memories$Bits") (T := fT_68) (N := 1) C (by decide +kernel) (kw K hw q666) (kw K hw q667) (kw K hw q326) (by decide) (Nat.le_of_ble_eq_true rfl) rfl rfl) ?_
  refine fs_c1 (fs_inv_virtual (pc := 108) (n := 209784900) C (Nat.le_of_ble_eq_true rfl) (Nat.le_of_ble_eq_true rfl) (fs_lk_init (idx := 46) (y := ⟨"BoardMachine$Memories$Bits", "<init>", "(I)V"⟩) (bytes := prog_78_method_1_code) (maxL := 2) (d := 2) C (Nat.le_of_ble_eq_true rfl) (Nat.le_of_ble_eq_true rfl) (by decide +kernel) (kw K hw q670) (kw K hw q326) (kw K hw q669) (Or.inl (kw K hw q668)) rfl ⟨by decide, by decide⟩ rfl (Nat.le_of_ble_eq_true rfl) (Nat.le_of_ble_eq_true rfl)) fs_con_mono o3) ?_
  refine fs_c1 (fs_astr (pc := 111) (n := 963711047) (EE := "BoardMachine$Memories$Change") C (by decide +kernel) (Nat.le_of_ble_eq_true rfl) rfl rfl (Nat.le_of_ble_eq_true rfl) (Nat.le_of_ble_eq_true rfl) (fs_rc (⟨_, rfl, Or.inr (kC K hw q6524)⟩) (fs_rc (⟨_, rfl, Or.inr (kC K hw q6525)⟩) (fs_rc (⟨_, rfl, Or.inr (kC K hw q6526)⟩) (fs_one (⟨_, rfl, Or.inr (kC K hw q6527)⟩)))))) ?_
  refine fs_c1 (fs_getf (pc := 113) (n := 864325926) (idx := 29) (ref := "BoardMachine$Memories$Ram") (O := "BoardMachine$Memories$Ram") (name := "changes") (desc := "[LBoardMachine$Memories$Change;") C (by decide +kernel) (Or.inl (kw K hw q697)) (fun _ h => h) (Nat.le_of_ble_eq_true rfl) (Nat.le_of_ble_eq_true rfl) (fs_one (⟨_, ff_73_206 s0 H0 oa D⟩))) ?_
  refine fs_c1 (fs_newo (pc := 118) (n := 4353) (idx := 44) (CC := "BoardMachine$Memories$Bits") (T := fT_68) (N := 1) C (by decide +kernel) (kw K hw q666) (kw K hw q667) (kw K hw q326) (by decide) (Nat.le_of_ble_eq_true rfl) rfl rfl) ?_
  refine fs_c1 (fs_inv_virtual (pc := 124) (n := 209784900) C (Nat.le_of_ble_eq_true rfl) (Nat.le_of_ble_eq_true rfl) (fs_lk_init (idx := 46) (y := ⟨"BoardMachine$Memories$Bits", "<init>", "(I)V"⟩) (bytes := prog_78_method_1_code) (maxL := 2) (d := 2) C (Nat.le_of_ble_eq_true rfl) (Nat.le_of_ble_eq_true rfl) (by decide +kernel) (kw K hw q670) (kw K hw q326) (kw K hw q669) (Or.inl (kw K hw q668)) rfl ⟨by decide, by decide⟩ rfl (Nat.le_of_ble_eq_true rfl) (Nat.le_of_ble_eq_true rfl)) fs_con_mono o3) ?_
  refine fs_c1 (fs_astr (pc := 127) (n := 963711047) (EE := "BoardMachine$Memories$Change") C (by decide +kernel) (Nat.le_of_ble_eq_true rfl) rfl rfl (Nat.le_of_ble_eq_true rfl) (Nat.le_of_ble_eq_true rfl) (fs_rc (⟨_, rfl, Or.inr (kC K hw q6524)⟩) (fs_rc (⟨_, rfl, Or.inr (kC K hw q6525)⟩) (fs_rc (⟨_, rfl, Or.inr (kC K hw q6526)⟩) (fs_one (⟨_, rfl, Or.inr (kC K hw q6527)⟩)))))) ?_
  refine fs_c1 (fs_getf (pc := 129) (n := 864325926) (idx := 29) (ref := "BoardMachine$Memories$Ram") (O := "BoardMachine$Memories$Ram") (name := "changes") (desc := "[LBoardMachine$Memories$Change;") C (by decide +kernel) (Or.inl (kw K hw q697)) (fun _ h => h) (Nat.le_of_ble_eq_true rfl) (Nat.le_of_ble_eq_true rfl) (fs_one (⟨_, ff_73_206 s0 H0 oa D⟩))) ?_
  refine fs_c1 (fs_newo (pc := 134) (n := 4353) (idx := 44) (CC := "BoardMachine$Memories$Bits") (T := fT_68) (N := 1) C (by decide +kernel) (kw K hw q666) (kw K hw q667) (kw K hw q326) (by decide) (Nat.le_of_ble_eq_true rfl) rfl rfl) ?_
  refine fs_c1 (fs_inv_virtual (pc := 140) (n := 209784900) C (Nat.le_of_ble_eq_true rfl) (Nat.le_of_ble_eq_true rfl) (fs_lk_init (idx := 46) (y := ⟨"BoardMachine$Memories$Bits", "<init>", "(I)V"⟩) (bytes := prog_78_method_1_code) (maxL := 2) (d := 2) C (Nat.le_of_ble_eq_true rfl) (Nat.le_of_ble_eq_true rfl) (by decide +kernel) (kw K hw q670) (kw K hw q326) (kw K hw q669) (Or.inl (kw K hw q668)) rfl ⟨by decide, by decide⟩ rfl (Nat.le_of_ble_eq_true rfl) (Nat.le_of_ble_eq_true rfl)) fs_con_mono o3) ?_
  refine fs_c1 (fs_astr (pc := 143) (n := 963711047) (EE := "BoardMachine$Memories$Change") C (by decide +kernel) (Nat.le_of_ble_eq_true rfl) rfl rfl (Nat.le_of_ble_eq_true rfl) (Nat.le_of_ble_eq_true rfl) (fs_rc (⟨_, rfl, Or.inr (kC K hw q6524)⟩) (fs_rc (⟨_, rfl, Or.inr (kC K hw q6525)⟩) (fs_rc (⟨_, rfl, Or.inr (kC K hw q6526)⟩) (fs_one (⟨_, rfl, Or.inr (kC K hw q6527)⟩)))))) ?_
  refine fs_c1 (fs_getf (pc := 145) (n := 864325926) (idx := 29) (ref := "BoardMachine$Memories$Ram") (O := "BoardMachine$Memories$Ram") (name := "changes") (desc := "[LBoardMachine$Memories$Change;") C (by decide +kernel) (Or.inl (kw K hw q697)) (fun _ h => h) (Nat.le_of_ble_eq_true rfl) (Nat.le_of_ble_eq_true rfl) (fs_one (⟨_, ff_73_206 s0 H0 oa D⟩))) ?_
  refine fs_c1 (fs_newo (pc := 150) (n := 4418) (idx := 49) (CC := "BoardMachine$Memories$Extreme") (T := fT_69) (N := 2) C (by decide +kernel) (kw K hw q676) (kw K hw q677) (kw K hw q327) (by decide) (Nat.le_of_ble_eq_true rfl) rfl rfl) ?_
  refine fs_c1 (fs_inv_virtual (pc := 156) (n := 281089093) C (Nat.le_of_ble_eq_true rfl) (Nat.le_of_ble_eq_true rfl) (fs_lk_init (idx := 51) (y := ⟨"BoardMachine$Memories$Extreme", "<init>", "(ZZ)V"⟩) (bytes := prog_80_method_1_code) (maxL := 3) (d := 2) C (Nat.le_of_ble_eq_true rfl) (Nat.le_of_ble_eq_true rfl) (by decide +kernel) (kw K hw q680) (kw K hw q327) (kw K hw q679) (Or.inl (kw K hw q678)) rfl ⟨by decide, by decide⟩ rfl (Nat.le_of_ble_eq_true rfl) (Nat.le_of_ble_eq_true rfl)) fs_con_mono o4) ?_
  refine fs_c1 (fs_astr (pc := 159) (n := 963711047) (EE := "BoardMachine$Memories$Change") C (by decide +kernel) (Nat.le_of_ble_eq_true rfl) rfl rfl (Nat.le_of_ble_eq_true rfl) (Nat.le_of_ble_eq_true rfl) (fs_rc (⟨_, rfl, Or.inr (kC K hw q6524)⟩) (fs_rc (⟨_, rfl, Or.inr (kC K hw q6525)⟩) (fs_rc (⟨_, rfl, Or.inr (kC K hw q6526)⟩) (fs_one (⟨_, rfl, Or.inr (kC K hw q6527)⟩)))))) ?_
  refine fs_c1 (fs_getf (pc := 161) (n := 864325926) (idx := 29) (ref := "BoardMachine$Memories$Ram") (O := "BoardMachine$Memories$Ram") (name := "changes") (desc := "[LBoardMachine$Memories$Change;") C (by decide +kernel) (Or.inl (kw K hw q697)) (fun _ h => h) (Nat.le_of_ble_eq_true rfl) (Nat.le_of_ble_eq_true rfl) (fs_one (⟨_, ff_73_206 s0 H0 oa D⟩))) ?_
  refine fs_c1 (fs_newo (pc := 166) (n := 4418) (idx := 49) (CC := "BoardMachine$Memories$Extreme") (T := fT_69) (N := 2) C (by decide +kernel) (kw K hw q676) (kw K hw q677) (kw K hw q327) (by decide) (Nat.le_of_ble_eq_true rfl) rfl rfl) ?_
  refine fs_c1 (fs_inv_virtual (pc := 172) (n := 281089093) C (Nat.le_of_ble_eq_true rfl) (Nat.le_of_ble_eq_true rfl) (fs_lk_init (idx := 51) (y := ⟨"BoardMachine$Memories$Extreme", "<init>", "(ZZ)V"⟩) (bytes := prog_80_method_1_code) (maxL := 3) (d := 2) C (Nat.le_of_ble_eq_true rfl) (Nat.le_of_ble_eq_true rfl) (by decide +kernel) (kw K hw q680) (kw K hw q327) (kw K hw q679) (Or.inl (kw K hw q678)) rfl ⟨by decide, by decide⟩ rfl (Nat.le_of_ble_eq_true rfl) (Nat.le_of_ble_eq_true rfl)) fs_con_mono o4) ?_
  refine fs_c1 (fs_astr (pc := 175) (n := 963711047) (EE := "BoardMachine$Memories$Change") C (by decide +kernel) (Nat.le_of_ble_eq_true rfl) rfl rfl (Nat.le_of_ble_eq_true rfl) (Nat.le_of_ble_eq_true rfl) (fs_rc (⟨_, rfl, Or.inr (kC K hw q6524)⟩) (fs_rc (⟨_, rfl, Or.inr (kC K hw q6525)⟩) (fs_rc (⟨_, rfl, Or.inr (kC K hw q6526)⟩) (fs_one (⟨_, rfl, Or.inr (kC K hw q6527)⟩)))))) ?_
  refine fs_c1 (fs_getf (pc := 177) (n := 864325926) (idx := 29) (ref := "BoardMachine$Memories$Ram") (O := "BoardMachine$Memories$Ram") (name := "changes") (desc := "[LBoardMachine$Memories$Change;") C (by decide +kernel) (Or.inl (kw K hw q697)) (fun _ h => h) (Nat.le_of_ble_eq_true rfl) (Nat.le_of_ble_eq_true rfl) (fs_one (⟨_, ff_73_206 s0 H0 oa D⟩))) ?_
  refine fs_c1 (fs_newo (pc := 182) (n := 4418) (idx := 49) (CC := "BoardMachine$Memories$Extreme") (T := fT_69) (N := 2) C (by decide +kernel) (kw K hw q676) (kw K hw q677) (kw K hw q327) (by decide) (Nat.le_of_ble_eq_true rfl) rfl rfl) ?_
  refine fs_c1 (fs_inv_virtual (pc := 188) (n := 281089093) C (Nat.le_of_ble_eq_true rfl) (Nat.le_of_ble_eq_true rfl) (fs_lk_init (idx := 51) (y := ⟨"BoardMachine$Memories$Extreme", "<init>", "(ZZ)V"⟩) (bytes := prog_80_method_1_code) (maxL := 3) (d := 2) C (Nat.le_of_ble_eq_true rfl) (Nat.le_of_ble_eq_true rfl) (by decide +kernel) (kw K hw q680) (kw K hw q327) (kw K hw q679) (Or.inl (kw K hw q678)) rfl ⟨by decide, by decide⟩ rfl (Nat.le_of_ble_eq_true rfl) (Nat.le_of_ble_eq_true rfl)) fs_con_mono o4) ?_
  refine fs_c1 (fs_astr (pc := 191) (n := 963711047) (EE := "BoardMachine$Memories$Change") C (by decide +kernel) (Nat.le_of_ble_eq_true rfl) rfl rfl (Nat.le_of_ble_eq_true rfl) (Nat.le_of_ble_eq_true rfl) (fs_rc (⟨_, rfl, Or.inr (kC K hw q6524)⟩) (fs_rc (⟨_, rfl, Or.inr (kC K hw q6525)⟩) (fs_rc (⟨_, rfl, Or.inr (kC K hw q6526)⟩) (fs_one (⟨_, rfl, Or.inr (kC K hw q6527)⟩)))))) ?_
  refine fs_c1 (fs_getf (pc := 193) (n := 864325926) (idx := 29) (ref := "BoardMachine$Memories$Ram") (O := "BoardMachine$Memories$Ram") (name := "changes") (desc := "[LBoardMachine$Memories$Change;") C (by decide +kernel) (Or.inl (kw K hw q697)) (fun _ h => h) (Nat.le_of_ble_eq_true rfl) (Nat.le_of_ble_eq_true rfl) (fs_one (⟨_, ff_73_206 s0 H0 oa D⟩))) ?_
  refine fs_c1 (fs_newo (pc := 198) (n := 4418) (idx := 49) (CC := "BoardMachine$Memories$Extreme") (T := fT_69) (N := 2) C (by decide +kernel) (kw K hw q676) (kw K hw q677) (kw K hw q327) (by decide) (Nat.le_of_ble_eq_true rfl) rfl rfl) ?_
  refine fs_c1 (fs_inv_virtual (pc := 204) (n := 281089093) C (Nat.le_of_ble_eq_true rfl) (Nat.le_of_ble_eq_true rfl) (fs_lk_init (idx := 51) (y := ⟨"BoardMachine$Memories$Extreme", "<init>", "(ZZ)V"⟩) (bytes := prog_80_method_1_code) (maxL := 3) (d := 2) C (Nat.le_of_ble_eq_true rfl) (Nat.le_of_ble_eq_true rfl) (by decide +kernel) (kw K hw q680) (kw K hw q327) (kw K hw q679) (Or.inl (kw K hw q678)) rfl ⟨by decide, by decide⟩ rfl (Nat.le_of_ble_eq_true rfl) (Nat.le_of_ble_eq_true rfl)) fs_con_mono o4) ?_
  refine fs_c1 (fs_astr (pc := 207) (n := 963711047) (EE := "BoardMachine$Memories$Change") C (by decide +kernel) (Nat.le_of_ble_eq_true rfl) rfl rfl (Nat.le_of_ble_eq_true rfl) (Nat.le_of_ble_eq_true rfl) (fs_rc (⟨_, rfl, Or.inr (kC K hw q6524)⟩) (fs_rc (⟨_, rfl, Or.inr (kC K hw q6525)⟩) (fs_rc (⟨_, rfl, Or.inr (kC K hw q6526)⟩) (fs_one (⟨_, rfl, Or.inr (kC K hw q6527)⟩)))))) ?_
  exact fs_c0
theorem hX19_init : fe_H (sX19_init) cX19_init [0] fe_kv [] 20 (fun _ => dX19_init FX19_init_0) := by
  intro j pc L st M r hc h
  rcases fe_mem_c hc with rfl | hc
  · obtain ⟨w0, m0, h⟩ := fe_lR_d h
    obtain ⟨w1, m1, h⟩ := fe_lR_d h
    obtain ⟨rfl, hz⟩ := fe_t0_d h
    exact ⟨[(0, .ref w0), (1, .ref w1)], (fe_cs m0 (fe_cs m1 fe_nl)), Or.inr ((bX19_init_0 FX19_init_0 w0 w1 M).symm.trans hz)⟩
  exact fe_mem_0 hc
theorem vX19_init : fe_SB (sX19_init) := by
  refine ⟨?_, ?_, ?_, ?_⟩
  · intro i As M r h
    exact fe_no h
  · intro i As M r h
    exact fe_no h
  · intro i As M r h
    exact fe_no h
  · intro i As M r h
    exact fe_no h
theorem eX19_init (g0 : Nat → Nat → FM → Option (FM)) (a0 : Nat) (a1 : Nat) (M : FM) : dX19_init g0 0 [(0, .ref a0), (1, .ref a1)] [] M = g0 a0 a1 M := by rfl
theorem mX19_init (a0 : Nat) (a1 : Nat) (M : FM) (r : FM) (h : FX19_init a0 a1 M = some r) : fm_nx M ≤ fm_nx r ∧ fm_ns M ≤ fm_ns r :=
  fe_mono (L0 := [(0, .ref a0), (1, .ref a1)]) (vX19_init) (by decide +kernel) (hX19_init) (fe_kv_k r) 0 rfl ((eX19_init FX19_init_0 a0 a1 M).trans h)
theorem zX19_init {s0 : State} {H0 : Heap} {oa : Nat → Nat} {D : va_G} (K : fk s0 H0 oa D) (l : Launch) (a0 : Nat) (a1 : Nat) (M : FM) (r : FM) (h : FX19_init a0 a1 M = some r) : fs_Con (fk_E s0 H0 oa D) l 1 ⟨"BoardMachine$QueueBytes", "<init>", "(LBoardMachine$Memories$Ram;)V"⟩ prog_87_method_1_code 2 (Option.none : Option Jvm.ClassFile.FieldType) [.ref a0, .ref a1] M none r := by
  refine fs_method (own := "BoardMachine$QueueBytes") rfl (by decide) K.2.1 (by rw [fe_slen]; exact (Nat.le_of_ble_eq_true rfl)) (mX19_init a0 a1 M r h) (hX19_init) 0 rfl (L0 := [(0, .ref a0), (1, .ref a1)]) (fun E => fe_args_e E [.ref a0, .ref a1] 0) ((eX19_init FX19_init_0 a0 a1 M).trans h) (fe_kv_k r) (fun H hR => fs_nr_o (by decide) (by decide)) ?_
  intro p e s m args below meth c Q C hnm
  have hw : s0.WarmedH s.vm := C.2.2.2.2.1
  refine fe_all C fk_hwr cX19_init [1, 6] (by decide +kernel) (fe_fil (cps := [(1, 4, .monitorenter), (6, 9, .putfield 931447090)]) (by decide +kernel) ?_)
  refine fs_c1 (fs_init (pc := 1) (idx := 1) C (by decide +kernel) (kw K hw q716) (kw K hw q441) (kw K hw q442) ⟨(Nat.le_of_ble_eq_true rfl), (Nat.le_of_ble_eq_true rfl)⟩) ?_
  refine fs_c1 (fs_putf (pc := 6) (n := 931447090) (idx := 7) (ref := "BoardMachine$QueueBytes") (O := "BoardMachine$QueueBytes") (name := "ram") (desc := "LBoardMachine$Memories$Ram;") (fin := true) (ty := (.object "BoardMachine$Memories$Ram")) C (by decide +kernel) (Or.inr ⟨rfl, kw K hw q717, hnm, rfl⟩) (fun _ h => h) (Nat.le_of_ble_eq_true rfl) (Nat.le_of_ble_eq_true rfl) (Nat.le_of_ble_eq_true rfl) rfl rfl (by decide) (fs_one (⟨rfl, ff_76_222 s0 H0 oa D⟩))) ?_
  exact fs_c0
theorem hX20_init : fe_H (sX20_init) cX20_init [0] fe_kv [] 20 (fun _ => dX20_init FX20_init_0) := by
  intro j pc L st M r hc h
  rcases fe_mem_c hc with rfl | hc
  · obtain ⟨w0, m0, h⟩ := fe_lR_d h
    obtain ⟨rfl, hz⟩ := fe_t0_d h
    exact ⟨[(0, .ref w0)], (fe_cs m0 fe_nl), Or.inr ((bX20_init_0 FX20_init_0 w0 M).symm.trans hz)⟩
  exact fe_mem_0 hc
theorem vX20_init : fe_SB (sX20_init) := by
  refine ⟨?_, ?_, ?_, ?_⟩
  · intro i As M r h
    exact fe_no h
  · intro i As M r h
    exact fe_no h
  · intro i As M r h
    exact fe_no h
  · intro i As M r h
    exact fe_no h
theorem eX20_init (g0 : Nat → FM → Option (FM)) (a0 : Nat) (M : FM) : dX20_init g0 0 [(0, .ref a0)] [] M = g0 a0 M := by rfl
theorem mX20_init (a0 : Nat) (M : FM) (r : FM) (h : FX20_init a0 M = some r) : fm_nx M ≤ fm_nx r ∧ fm_ns M ≤ fm_ns r :=
  fe_mono (L0 := [(0, .ref a0)]) (vX20_init) (by decide +kernel) (hX20_init) (fe_kv_k r) 0 rfl ((eX20_init FX20_init_0 a0 M).trans h)
theorem zX20_init {s0 : State} {H0 : Heap} {oa : Nat → Nat} {D : va_G} (K : fk s0 H0 oa D) (l : Launch) (a0 : Nat) (M : FM) (r : FM) (h : FX20_init a0 M = some r) : fs_Con (fk_E s0 H0 oa D) l 1 ⟨"BoardMachine$Disks$Queue", "<init>", "()V"⟩ prog_22_method_1_code 1 (Option.none : Option Jvm.ClassFile.FieldType) [.ref a0] M none r := by
  refine fs_method (own := "BoardMachine$Disks$Queue") rfl (by decide) K.2.1 (by rw [fe_slen]; exact (Nat.le_of_ble_eq_true rfl)) (mX20_init a0 M r h) (hX20_init) 0 rfl (L0 := [(0, .ref a0)]) (fun E => fe_args_e E [.ref a0] 0) ((eX20_init FX20_init_0 a0 M).trans h) (fe_kv_k r) (fun H hR => fs_nr_o (by decide) (by decide)) ?_
  intro p e s m args below meth c Q C hnm
  have hw : s0.WarmedH s.vm := C.2.2.2.2.1
  refine fe_all C fk_hwr cX20_init [1, 7] (by decide +kernel) (fe_fil (cps := [(1, 4, .monitorenter), (7, 10, .putfield 297910384)]) (by decide +kernel) ?_)
  refine fs_c1 (fs_init (pc := 1) (idx := 3) C (by decide +kernel) (kw K hw q730) (kw K hw q441) (kw K hw q442) ⟨(Nat.le_of_ble_eq_true rfl), (Nat.le_of_ble_eq_true rfl)⟩) ?_
  refine fs_c1 (fs_putf (pc := 7) (n := 297910384) (idx := 9) (ref := "BoardMachine$Disks$Queue") (O := "BoardMachine$Disks$Queue") (name := "size") (desc := "I") (fin := false) (ty := .int) C (by decide +kernel) (Or.inl ⟨rfl, Or.inl (kw K hw q731)⟩) (fun _ h => h) (Nat.le_of_ble_eq_true rfl) (Nat.le_of_ble_eq_true rfl) (Nat.le_of_ble_eq_true rfl) rfl rfl (by decide) (fs_one (⟨rfl, ff_28_71 s0 H0 oa D⟩))) ?_
  exact fs_c0
theorem hX22_init : fe_H (sX22_init) cX22_init [0] fe_kv [] 20 (fun _ => dX22_init FX22_init_0) := by
  intro j pc L st M r hc h
  rcases fe_mem_c hc with rfl | hc
  · obtain ⟨w0, m0, h⟩ := fe_lR_d h
    obtain ⟨rfl, hz⟩ := fe_t0_d h
    exact ⟨[(0, .ref w0)], (fe_cs m0 fe_nl), Or.inr ((bX22_init_0 FX22_init_0 w0 M).symm.trans hz)⟩
  exact fe_mem_0 hc
theorem vX22_init : fe_SB (sX22_init) := by
  refine ⟨?_, ?_, ?_, ?_⟩
  · intro i As M r h
    exact fe_no h
  · intro i As M r h
    exact fe_no h
  · intro i As M r h
    exact fe_no h
  · intro i As M r h
    exact fe_no h
theorem eX22_init (g0 : Nat → FM → Option (FM)) (a0 : Nat) (M : FM) : dX22_init g0 0 [(0, .ref a0)] [] M = g0 a0 M := by rfl
theorem mX22_init (a0 : Nat) (M : FM) (r : FM) (h : FX22_init a0 M = some r) : fm_nx M ≤ fm_nx r ∧ fm_ns M ≤ fm_ns r :=
  fe_mono (L0 := [(0, .ref a0)]) (vX22_init) (by decide +kernel) (hX22_init) (fe_kv_k r) 0 rfl ((eX22_init FX22_init_0 a0 M).trans h)
theorem zX22_init {s0 : State} {H0 : Heap} {oa : Nat → Nat} {D : va_G} (K : fk s0 H0 oa D) (l : Launch) (a0 : Nat) (M : FM) (r : FM) (h : FX22_init a0 M = some r) : fs_Con (fk_E s0 H0 oa D) l 1 ⟨"BoardMachine$Disks$Stretch", "<init>", "()V"⟩ prog_25_method_1_code 1 (Option.none : Option Jvm.ClassFile.FieldType) [.ref a0] M none r := by
  refine fs_method (own := "BoardMachine$Disks$Stretch") rfl (by decide) K.2.1 (by rw [fe_slen]; exact (Nat.le_of_ble_eq_true rfl)) (mX22_init a0 M r h) (hX22_init) 0 rfl (L0 := [(0, .ref a0)]) (fun E => fe_args_e E [.ref a0] 0) ((eX22_init FX22_init_0 a0 M).trans h) (fe_kv_k r) (fun H hR => fs_nr_o (by decide) (by decide)) ?_
  intro p e s m args below meth c Q C hnm
  have hw : s0.WarmedH s.vm := C.2.2.2.2.1
  refine fe_all C fk_hwr cX22_init [1, 7, 9, 15, 17] (by decide +kernel) (fe_fil (cps := [(1, 4, .monitorenter), (7, 9, .anewarray 87942), (9, 12, .putfield 356638842), (15, 17, .anewarray 88966), (17, 20, .putfield 360833146)]) (by decide +kernel) ?_)
  refine fs_c1 (fs_init (pc := 1) (idx := 1) C (by decide +kernel) (kw K hw q770) (kw K hw q441) (kw K hw q442) ⟨(Nat.le_of_ble_eq_true rfl), (Nat.le_of_ble_eq_true rfl)⟩) ?_
  refine fs_c1 (fs_newL (pc := 7) (n := 87942) C (by decide +kernel) (kw K hw q648) rfl rfl) ?_
  refine fs_c1 (fs_putf (pc := 9) (n := 356638842) (idx := 7) (ref := "BoardMachine$Disks$Stretch") (O := "BoardMachine$Disks$Stretch") (name := "addresses") (desc := "[J") (fin := true) (ty := (.array .long)) C (by decide +kernel) (Or.inr ⟨rfl, kw K hw q771, hnm, rfl⟩) (fun _ h => h) (Nat.le_of_ble_eq_true rfl) (Nat.le_of_ble_eq_true rfl) (Nat.le_of_ble_eq_true rfl) rfl rfl (by decide) (fs_one (⟨rfl, ff_30_85 s0 H0 oa D⟩))) ?_
  refine fs_c1 (fs_newL (pc := 15) (n := 88966) C (by decide +kernel) (kw K hw q648) rfl rfl) ?_
  refine fs_c1 (fs_putf (pc := 17) (n := 360833146) (idx := 13) (ref := "BoardMachine$Disks$Stretch") (O := "BoardMachine$Disks$Stretch") (name := "lengths") (desc := "[J") (fin := true) (ty := (.array .long)) C (by decide +kernel) (Or.inr ⟨rfl, kw K hw q772, hnm, rfl⟩) (fun _ h => h) (Nat.le_of_ble_eq_true rfl) (Nat.le_of_ble_eq_true rfl) (Nat.le_of_ble_eq_true rfl) rfl rfl (by decide) (fs_one (⟨rfl, ff_30_86 s0 H0 oa D⟩))) ?_
  exact fs_c0
theorem hX21_init : fe_H (sX21_init FX22_init) cX21_init [0] fe_kv [] 20 (fun _ => dX21_init FX21_init_0) := by
  intro j pc L st M r hc h
  rcases fe_mem_c hc with rfl | hc
  · obtain ⟨w0, m0, h⟩ := fe_lR_d h
    obtain ⟨rfl, hz⟩ := fe_t0_d h
    exact ⟨[(0, .ref w0)], (fe_cs m0 fe_nl), Or.inr ((bX21_init_0 FX22_init FX21_init_0 w0 M).symm.trans hz)⟩
  exact fe_mem_0 hc
theorem vX21_init : fe_SB (sX21_init FX22_init) := by
  refine ⟨?_, ?_, ?_, ?_⟩
  · intro i As M r h
    rcases fe_bc h with h | h
    · obtain ⟨v0, t0, rfl, g0⟩ := fe_tR_d h
      obtain ⟨rfl, hz⟩ := fe_t0_d g0
      exact mX22_init v0 M r hz
    exact fe_no h
  · intro i As M r h
    exact fe_no h
  · intro i As M r h
    exact fe_no h
  · intro i As M r h
    exact fe_no h
theorem eX21_init (g0 : Nat → FM → Option (FM)) (a0 : Nat) (M : FM) : dX21_init g0 0 [(0, .ref a0)] [] M = g0 a0 M := by rfl
theorem mX21_init (a0 : Nat) (M : FM) (r : FM) (h : FX21_init a0 M = some r) : fm_nx M ≤ fm_nx r ∧ fm_ns M ≤ fm_ns r :=
  fe_mono (L0 := [(0, .ref a0)]) (vX21_init) (by decide +kernel) (hX21_init) (fe_kv_k r) 0 rfl ((eX21_init FX21_init_0 a0 M).trans h)
theorem zX21_init {s0 : State} {H0 : Heap} {oa : Nat → Nat} {D : va_G} (K : fk s0 H0 oa D) (l : Launch) (a0 : Nat) (M : FM) (r : FM) (h : FX21_init a0 M = some r) : fs_Con (fk_E s0 H0 oa D) l 2 ⟨"BoardMachine$Disks$Request", "<init>", "()V"⟩ prog_24_method_1_code 1 (Option.none : Option Jvm.ClassFile.FieldType) [.ref a0] M none r := by
  have o0 : fs_OS (sX21_init FX22_init) 0 0 (fs_Con (fk_E s0 H0 oa D) l 1 ⟨"BoardMachine$Disks$Stretch", "<init>", "()V"⟩ prog_25_method_1_code 1 (Option.none : Option Jvm.ClassFile.FieldType)) := by
    intro As M r h
    obtain ⟨v0, t0, rfl, g0⟩ := fe_tR_d h
    obtain ⟨rfl, hz⟩ := fe_t0_d g0
    exact zX22_init K l v0 M r hz
  refine fs_method (own := "BoardMachine$Disks$Request") rfl (by decide) K.2.1 (by rw [fe_slen]; exact (Nat.le_of_ble_eq_true rfl)) (mX21_init a0 M r h) (hX21_init) 0 rfl (L0 := [(0, .ref a0)]) (fun E => fe_args_e E [.ref a0] 0) ((eX21_init FX21_init_0 a0 M).trans h) (fe_kv_k r) (fun H hR => fs_nr_o (by decide) (by decide)) ?_
  intro p e s m args below meth c Q C hnm
  have hw : s0.WarmedH s.vm := C.2.2.2.2.1
  refine fe_all C fk_hwr cX21_init [1, 5, 9, 12, 16, 20, 23] (by decide +kernel) (fe_fil (cps := [(1, 4, .monitorenter), (5, 8, .new 1926), (9, 12, .invokevirtual 4225054), (12, 15, .putfield 327274614), (16, 19, .new 1926), (20, 23, .invokevirtual 4225054), (23, 26, .putfield 331468918)]) (by decide +kernel) ?_)
  refine fs_c1 (fs_init (pc := 1) (idx := 1) C (by decide +kernel) (kw K hw q764) (kw K hw q441) (kw K hw q442) ⟨(Nat.le_of_ble_eq_true rfl), (Nat.le_of_ble_eq_true rfl)⟩) ?_
  refine fs_c1 (fs_newo (pc := 5) (n := 1926) (idx := 7) (CC := "BoardMachine$Disks$Stretch") (T := fT_30) (N := 6) C (by decide +kernel) (kw K hw q765) (kw K hw q766) (kw K hw q332) (by decide) (Nat.le_of_ble_eq_true rfl) rfl rfl) ?_
  refine fs_c1 (fs_inv_virtual (pc := 9) (n := 4225054) C (Nat.le_of_ble_eq_true rfl) (Nat.le_of_ble_eq_true rfl) (fs_lk_init (idx := 9) (y := ⟨"BoardMachine$Disks$Stretch", "<init>", "()V"⟩) (bytes := prog_25_method_1_code) (maxL := 1) (d := 1) C (Nat.le_of_ble_eq_true rfl) (Nat.le_of_ble_eq_true rfl) (by decide +kernel) (kw K hw q769) (kw K hw q332) (kw K hw q768) (Or.inr ⟨_, kM K hw q767⟩) rfl ⟨by decide, by decide⟩ rfl (Nat.le_of_ble_eq_true rfl) (Nat.le_of_ble_eq_true rfl)) fs_con_mono o0) ?_
  refine fs_c1 (fs_putf (pc := 12) (n := 327274614) (idx := 10) (ref := "BoardMachine$Disks$Request") (O := "BoardMachine$Disks$Request") (name := "closed") (desc := "LBoardMachine$Disks$Stretch;") (fin := true) (ty := (.object "BoardMachine$Disks$Stretch")) C (by decide +kernel) (Or.inr ⟨rfl, kw K hw q793, hnm, rfl⟩) (fun _ h => h) (Nat.le_of_ble_eq_true rfl) (Nat.le_of_ble_eq_true rfl) (Nat.le_of_ble_eq_true rfl) rfl rfl (by decide) (fs_one (⟨rfl, ff_29_78 s0 H0 oa D⟩))) ?_
  refine fs_c1 (fs_newo (pc := 16) (n := 1926) (idx := 7) (CC := "BoardMachine$Disks$Stretch") (T := fT_30) (N := 6) C (by decide +kernel) (kw K hw q765) (kw K hw q766) (kw K hw q332) (by decide) (Nat.le_of_ble_eq_true rfl) rfl rfl) ?_
  refine fs_c1 (fs_inv_virtual (pc := 20) (n := 4225054) C (Nat.le_of_ble_eq_true rfl) (Nat.le_of_ble_eq_true rfl) (fs_lk_init (idx := 9) (y := ⟨"BoardMachine$Disks$Stretch", "<init>", "()V"⟩) (bytes := prog_25_method_1_code) (maxL := 1) (d := 1) C (Nat.le_of_ble_eq_true rfl) (Nat.le_of_ble_eq_true rfl) (by decide +kernel) (kw K hw q769) (kw K hw q332) (kw K hw q768) (Or.inr ⟨_, kM K hw q767⟩) rfl ⟨by decide, by decide⟩ rfl (Nat.le_of_ble_eq_true rfl) (Nat.le_of_ble_eq_true rfl)) fs_con_mono o0) ?_
  refine fs_c1 (fs_putf (pc := 23) (n := 331468918) (idx := 16) (ref := "BoardMachine$Disks$Request") (O := "BoardMachine$Disks$Request") (name := "open") (desc := "LBoardMachine$Disks$Stretch;") (fin := true) (ty := (.object "BoardMachine$Disks$Stretch")) C (by decide +kernel) (Or.inr ⟨rfl, kw K hw q796, hnm, rfl⟩) (fun _ h => h) (Nat.le_of_ble_eq_true rfl) (Nat.le_of_ble_eq_true rfl) (Nat.le_of_ble_eq_true rfl) rfl rfl (by decide) (fs_one (⟨rfl, ff_29_79 s0 H0 oa D⟩))) ?_
  exact fs_c0
theorem hX23_init : fe_H (sX23_init) cX23_init [0] fe_kv [] 20 (fun _ => dX23_init FX23_init_0) := by
  intro j pc L st M r hc h
  rcases fe_mem_c hc with rfl | hc
  · obtain ⟨w0, m0, h⟩ := fe_lR_d h
    obtain ⟨w1, m1, h⟩ := fe_lI_d h
    obtain ⟨rfl, hz⟩ := fe_t0_d h
    exact ⟨[(0, .ref w0), (1, .int w1)], (fe_cs m0 (fe_cs m1 fe_nl)), Or.inr ((bX23_init_0 FX23_init_0 w0 w1 M).symm.trans hz)⟩
  exact fe_mem_0 hc
theorem vX23_init : fe_SB (sX23_init) := by
  refine ⟨?_, ?_, ?_, ?_⟩
  · intro i As M r h
    exact fe_no h
  · intro i As M r h
    exact fe_no h
  · intro i As M r h
    exact fe_no h
  · intro i As M r h
    exact fe_no h
theorem eX23_init (g0 : Nat → Int32 → FM → Option (FM)) (a0 : Nat) (a1 : Int32) (M : FM) : dX23_init g0 0 [(0, .ref a0), (1, .int a1)] [] M = g0 a0 a1 M := by rfl
theorem mX23_init (a0 : Nat) (a1 : Int32) (M : FM) (r : FM) (h : FX23_init a0 a1 M = some r) : fm_nx M ≤ fm_nx r ∧ fm_ns M ≤ fm_ns r :=
  fe_mono (L0 := [(0, .ref a0), (1, .int a1)]) (vX23_init) (by decide +kernel) (hX23_init) (fe_kv_k r) 0 rfl ((eX23_init FX23_init_0 a0 a1 M).trans h)
theorem zX23_init {s0 : State} {H0 : Heap} {oa : Nat → Nat} {D : va_G} (K : fk s0 H0 oa D) (l : Launch) (a0 : Nat) (a1 : Int32) (M : FM) (r : FM) (h : FX23_init a0 a1 M = some r) : fs_Con (fk_E s0 H0 oa D) l 1 ⟨"BoardMachine$Disks$Disk", "<init>", "(I)V"⟩ prog_18_method_1_code 2 (Option.none : Option Jvm.ClassFile.FieldType) [.ref a0, .int a1] M none r := by
  refine fs_method (own := "BoardMachine$Disks$Disk") rfl (by decide) K.2.1 (by rw [fe_slen]; exact (Nat.le_of_ble_eq_true rfl)) (mX23_init a0 a1 M r h) (hX23_init) 0 rfl (L0 := [(0, .ref a0), (1, .int a1)]) (fun E => fe_args_e E [.ref a0, .int a1] 0) ((eX23_init FX23_init_0 a0 a1 M).trans h) (fe_kv_k r) (fun H hR => fs_nr_o (by decide) (by decide)) ?_
  intro p e s m args below meth c Q C hnm
  have hw : s0.WarmedH s.vm := C.2.2.2.2.1
  refine fe_all C fk_hwr cX23_init [1, 6, 14, 16] (by decide +kernel) (fe_fil (cps := [(1, 4, .monitorenter), (6, 9, .putfield 285306972), (14, 16, .anewarray 71558), (16, 19, .putfield 289501278)]) (by decide +kernel) ?_)
  refine fs_c1 (fs_init (pc := 1) (idx := 3) C (by decide +kernel) (kw K hw q834) (kw K hw q441) (kw K hw q442) ⟨(Nat.le_of_ble_eq_true rfl), (Nat.le_of_ble_eq_true rfl)⟩) ?_
  refine fs_c1 (fs_putf (pc := 6) (n := 285306972) (idx := 9) (ref := "BoardMachine$Disks$Disk") (O := "BoardMachine$Disks$Disk") (name := "sectors") (desc := "I") (fin := true) (ty := .int) C (by decide +kernel) (Or.inr ⟨rfl, kw K hw q835, hnm, rfl⟩) (fun _ h => h) (Nat.le_of_ble_eq_true rfl) (Nat.le_of_ble_eq_true rfl) (Nat.le_of_ble_eq_true rfl) rfl rfl (by decide) (fs_one (⟨rfl, ff_23_68 s0 H0 oa D⟩))) ?_
  refine fs_c1 (fs_newL (pc := 14) (n := 71558) C (by decide +kernel) (kw K hw q648) rfl rfl) ?_
  refine fs_c1 (fs_putf (pc := 16) (n := 289501278) (idx := 15) (ref := "BoardMachine$Disks$Disk") (O := "BoardMachine$Disks$Disk") (name := "words") (desc := "[J") (fin := true) (ty := (.array .long)) C (by decide +kernel) (Or.inr ⟨rfl, kw K hw q837, hnm, rfl⟩) (fun _ h => h) (Nat.le_of_ble_eq_true rfl) (Nat.le_of_ble_eq_true rfl) (Nat.le_of_ble_eq_true rfl) rfl rfl (by decide) (fs_one (⟨rfl, ff_23_69 s0 H0 oa D⟩))) ?_
  exact fs_c0
theorem hX24_init : fe_H (sX24_init) cX24_init [0] fe_kv [] 20 (fun _ => dX24_init FX24_init_0) := by
  intro j pc L st M r hc h
  rcases fe_mem_c hc with rfl | hc
  · obtain ⟨w0, m0, h⟩ := fe_lR_d h
    obtain ⟨rfl, hz⟩ := fe_t0_d h
    exact ⟨[(0, .ref w0)], (fe_cs m0 fe_nl), Or.inr ((bX24_init_0 FX24_init_0 w0 M).symm.trans hz)⟩
  exact fe_mem_0 hc
theorem vX24_init : fe_SB (sX24_init) := by
  refine ⟨?_, ?_, ?_, ?_⟩
  · intro i As M r h
    exact fe_no h
  · intro i As M r h
    exact fe_no h
  · intro i As M r h
    exact fe_no h
  · intro i As M r h
    exact fe_no h
theorem eX24_init (g0 : Nat → FM → Option (FM)) (a0 : Nat) (M : FM) : dX24_init g0 0 [(0, .ref a0)] [] M = g0 a0 M := by rfl
theorem mX24_init (a0 : Nat) (M : FM) (r : FM) (h : FX24_init a0 M = some r) : fm_nx M ≤ fm_nx r ∧ fm_ns M ≤ fm_ns r :=
  fe_mono (L0 := [(0, .ref a0)]) (vX24_init) (by decide +kernel) (hX24_init) (fe_kv_k r) 0 rfl ((eX24_init FX24_init_0 a0 M).trans h)
theorem zX24_init {s0 : State} {H0 : Heap} {oa : Nat → Nat} {D : va_G} (K : fk s0 H0 oa D) (l : Launch) (a0 : Nat) (M : FM) (r : FM) (h : FX24_init a0 M = some r) : fs_Con (fk_E s0 H0 oa D) l 1 ⟨"BoardMachine$Disks$Kind", "<init>", "()V"⟩ prog_20_method_1_code 1 (Option.none : Option Jvm.ClassFile.FieldType) [.ref a0] M none r := by
  refine fs_method (own := "BoardMachine$Disks$Kind") rfl (by decide) K.2.1 (by rw [fe_slen]; exact (Nat.le_of_ble_eq_true rfl)) (mX24_init a0 M r h) (hX24_init) 0 rfl (L0 := [(0, .ref a0)]) (fun E => fe_args_e E [.ref a0] 0) ((eX24_init FX24_init_0 a0 M).trans h) (fe_kv_k r) (fun H hR => fs_nr_o (by decide) (by decide)) ?_
  intro p e s m args below meth c Q C hnm
  have hw : s0.WarmedH s.vm := C.2.2.2.2.1
  refine fe_all C fk_hwr cX24_init [1] (by decide +kernel) (fe_fil (cps := [(1, 4, .monitorenter)]) (by decide +kernel) ?_)
  refine fs_c1 (fs_init (pc := 1) (idx := 1) C (by decide +kernel) (kw K hw q855) (kw K hw q441) (kw K hw q442) ⟨(Nat.le_of_ble_eq_true rfl), (Nat.le_of_ble_eq_true rfl)⟩) ?_
  exact fs_c0
theorem hX25_init : fe_H (sX25_init FX24_init) cX25_init [0] fe_kv [] 20 (fun _ => dX25_init FX25_init_0) := by
  intro j pc L st M r hc h
  rcases fe_mem_c hc with rfl | hc
  · obtain ⟨w0, m0, h⟩ := fe_lR_d h
    obtain ⟨rfl, hz⟩ := fe_t0_d h
    exact ⟨[(0, .ref w0)], (fe_cs m0 fe_nl), Or.inr ((bX25_init_0 FX24_init FX25_init_0 w0 M).symm.trans hz)⟩
  exact fe_mem_0 hc
theorem vX25_init : fe_SB (sX25_init FX24_init) := by
  refine ⟨?_, ?_, ?_, ?_⟩
  · intro i As M r h
    rcases fe_bc h with h | h
    · obtain ⟨v0, t0, rfl, g0⟩ := fe_tR_d h
      obtain ⟨rfl, hz⟩ := fe_t0_d g0
      exact mX24_init v0 M r hz
    exact fe_no h
  · intro i As M r h
    exact fe_no h
  · intro i As M r h
    exact fe_no h
  · intro i As M r h
    exact fe_no h
theorem eX25_init (g0 : Nat → FM → Option (FM)) (a0 : Nat) (M : FM) : dX25_init g0 0 [(0, .ref a0)] [] M = g0 a0 M := by rfl
theorem mX25_init (a0 : Nat) (M : FM) (r : FM) (h : FX25_init a0 M = some r) : fm_nx M ≤ fm_nx r ∧ fm_ns M ≤ fm_ns r :=
  fe_mono (L0 := [(0, .ref a0)]) (vX25_init) (by decide +kernel) (hX25_init) (fe_kv_k r) 0 rfl ((eX25_init FX25_init_0 a0 M).trans h)
theorem zX25_init {s0 : State} {H0 : Heap} {oa : Nat → Nat} {D : va_G} (K : fk s0 H0 oa D) (l : Launch) (a0 : Nat) (M : FM) (r : FM) (h : FX25_init a0 M = some r) : fs_Con (fk_E s0 H0 oa D) l 2 ⟨"BoardMachine$Disks$Reading", "<init>", "()V"⟩ prog_23_method_1_code 1 (Option.none : Option Jvm.ClassFile.FieldType) [.ref a0] M none r := by
  have o0 : fs_OS (sX25_init FX24_init) 0 0 (fs_Con (fk_E s0 H0 oa D) l 1 ⟨"BoardMachine$Disks$Kind", "<init>", "()V"⟩ prog_20_method_1_code 1 (Option.none : Option Jvm.ClassFile.FieldType)) := by
    intro As M r h
    obtain ⟨v0, t0, rfl, g0⟩ := fe_tR_d h
    obtain ⟨rfl, hz⟩ := fe_t0_d g0
    exact zX24_init K l v0 M r hz
  refine fs_method (own := "BoardMachine$Disks$Reading") rfl (by decide) K.2.1 (by rw [fe_slen]; exact (Nat.le_of_ble_eq_true rfl)) (mX25_init a0 M r h) (hX25_init) 0 rfl (L0 := [(0, .ref a0)]) (fun E => fe_args_e E [.ref a0] 0) ((eX25_init FX25_init_0 a0 M).trans h) (fe_kv_k r) (fun H hR => fs_nr_o (by decide) (by decide)) ?_
  intro p e s m args below meth c Q C hnm
  have hw : s0.WarmedH s.vm := C.2.2.2.2.1
  refine fe_all C fk_hwr cX25_init [1] (by decide +kernel) (fe_fil (cps := [(1, 4, .invokevirtual 4220954)]) (by decide +kernel) ?_)
  refine fs_c1 (fs_inv_virtual (pc := 1) (n := 4220954) C (Nat.le_of_ble_eq_true rfl) (Nat.le_of_ble_eq_true rfl) (fs_lk_init (idx := 3) (y := ⟨"BoardMachine$Disks$Kind", "<init>", "()V"⟩) (bytes := prog_20_method_1_code) (maxL := 1) (d := 1) C (Nat.le_of_ble_eq_true rfl) (Nat.le_of_ble_eq_true rfl) (by decide +kernel) (kw K hw q854) (kw K hw q334) (kw K hw q853) (Or.inr ⟨_, kM K hw q852⟩) rfl ⟨by decide, by decide⟩ rfl (Nat.le_of_ble_eq_true rfl) (Nat.le_of_ble_eq_true rfl)) fs_con_mono o0) ?_
  exact fs_c0
theorem hX26_init : fe_H (sX26_init FX24_init) cX26_init [0] fe_kv [] 20 (fun _ => dX26_init FX26_init_0) := by
  intro j pc L st M r hc h
  rcases fe_mem_c hc with rfl | hc
  · obtain ⟨w0, m0, h⟩ := fe_lR_d h
    obtain ⟨rfl, hz⟩ := fe_t0_d h
    exact ⟨[(0, .ref w0)], (fe_cs m0 fe_nl), Or.inr ((bX26_init_0 FX24_init FX26_init_0 w0 M).symm.trans hz)⟩
  exact fe_mem_0 hc
theorem vX26_init : fe_SB (sX26_init FX24_init) := by
  refine ⟨?_, ?_, ?_, ?_⟩
  · intro i As M r h
    rcases fe_bc h with h | h
    · obtain ⟨v0, t0, rfl, g0⟩ := fe_tR_d h
      obtain ⟨rfl, hz⟩ := fe_t0_d g0
      exact mX24_init v0 M r hz
    exact fe_no h
  · intro i As M r h
    exact fe_no h
  · intro i As M r h
    exact fe_no h
  · intro i As M r h
    exact fe_no h
theorem eX26_init (g0 : Nat → FM → Option (FM)) (a0 : Nat) (M : FM) : dX26_init g0 0 [(0, .ref a0)] [] M = g0 a0 M := by rfl
theorem mX26_init (a0 : Nat) (M : FM) (r : FM) (h : FX26_init a0 M = some r) : fm_nx M ≤ fm_nx r ∧ fm_ns M ≤ fm_ns r :=
  fe_mono (L0 := [(0, .ref a0)]) (vX26_init) (by decide +kernel) (hX26_init) (fe_kv_k r) 0 rfl ((eX26_init FX26_init_0 a0 M).trans h)
theorem zX26_init {s0 : State} {H0 : Heap} {oa : Nat → Nat} {D : va_G} (K : fk s0 H0 oa D) (l : Launch) (a0 : Nat) (M : FM) (r : FM) (h : FX26_init a0 M = some r) : fs_Con (fk_E s0 H0 oa D) l 2 ⟨"BoardMachine$Disks$Writing", "<init>", "()V"⟩ prog_26_method_1_code 1 (Option.none : Option Jvm.ClassFile.FieldType) [.ref a0] M none r := by
  have o0 : fs_OS (sX26_init FX24_init) 0 0 (fs_Con (fk_E s0 H0 oa D) l 1 ⟨"BoardMachine$Disks$Kind", "<init>", "()V"⟩ prog_20_method_1_code 1 (Option.none : Option Jvm.ClassFile.FieldType)) := by
    intro As M r h
    obtain ⟨v0, t0, rfl, g0⟩ := fe_tR_d h
    obtain ⟨rfl, hz⟩ := fe_t0_d g0
    exact zX24_init K l v0 M r hz
  refine fs_method (own := "BoardMachine$Disks$Writing") rfl (by decide) K.2.1 (by rw [fe_slen]; exact (Nat.le_of_ble_eq_true rfl)) (mX26_init a0 M r h) (hX26_init) 0 rfl (L0 := [(0, .ref a0)]) (fun E => fe_args_e E [.ref a0] 0) ((eX26_init FX26_init_0 a0 M).trans h) (fe_kv_k r) (fun H hR => fs_nr_o (by decide) (by decide)) ?_
  intro p e s m args below meth c Q C hnm
  have hw : s0.WarmedH s.vm := C.2.2.2.2.1
  refine fe_all C fk_hwr cX26_init [1] (by decide +kernel) (fe_fil (cps := [(1, 4, .invokevirtual 4221979)]) (by decide +kernel) ?_)
  refine fs_c1 (fs_inv_virtual (pc := 1) (n := 4221979) C (Nat.le_of_ble_eq_true rfl) (Nat.le_of_ble_eq_true rfl) (fs_lk_init (idx := 3) (y := ⟨"BoardMachine$Disks$Kind", "<init>", "()V"⟩) (bytes := prog_20_method_1_code) (maxL := 1) (d := 1) C (Nat.le_of_ble_eq_true rfl) (Nat.le_of_ble_eq_true rfl) (by decide +kernel) (kw K hw q854) (kw K hw q334) (kw K hw q853) (Or.inr ⟨_, kM K hw q862⟩) rfl ⟨by decide, by decide⟩ rfl (Nat.le_of_ble_eq_true rfl) (Nat.le_of_ble_eq_true rfl)) fs_con_mono o0) ?_
  exact fs_c0
theorem hX27_init : fe_H (sX27_init FX24_init) cX27_init [0] fe_kv [] 20 (fun _ => dX27_init FX27_init_0) := by
  intro j pc L st M r hc h
  rcases fe_mem_c hc with rfl | hc
  · obtain ⟨w0, m0, h⟩ := fe_lR_d h
    obtain ⟨rfl, hz⟩ := fe_t0_d h
    exact ⟨[(0, .ref w0)], (fe_cs m0 fe_nl), Or.inr ((bX27_init_0 FX24_init FX27_init_0 w0 M).symm.trans hz)⟩
  exact fe_mem_0 hc
theorem vX27_init : fe_SB (sX27_init FX24_init) := by
  refine ⟨?_, ?_, ?_, ?_⟩
  · intro i As M r h
    rcases fe_bc h with h | h
    · obtain ⟨v0, t0, rfl, g0⟩ := fe_tR_d h
      obtain ⟨rfl, hz⟩ := fe_t0_d g0
      exact mX24_init v0 M r hz
    exact fe_no h
  · intro i As M r h
    exact fe_no h
  · intro i As M r h
    exact fe_no h
  · intro i As M r h
    exact fe_no h
theorem eX27_init (g0 : Nat → FM → Option (FM)) (a0 : Nat) (M : FM) : dX27_init g0 0 [(0, .ref a0)] [] M = g0 a0 M := by rfl
theorem mX27_init (a0 : Nat) (M : FM) (r : FM) (h : FX27_init a0 M = some r) : fm_nx M ≤ fm_nx r ∧ fm_ns M ≤ fm_ns r :=
  fe_mono (L0 := [(0, .ref a0)]) (vX27_init) (by decide +kernel) (hX27_init) (fe_kv_k r) 0 rfl ((eX27_init FX27_init_0 a0 M).trans h)
theorem zX27_init {s0 : State} {H0 : Heap} {oa : Nat → Nat} {D : va_G} (K : fk s0 H0 oa D) (l : Launch) (a0 : Nat) (M : FM) (r : FM) (h : FX27_init a0 M = some r) : fs_Con (fk_E s0 H0 oa D) l 2 ⟨"BoardMachine$Disks$Flushing", "<init>", "()V"⟩ prog_19_method_1_code 1 (Option.none : Option Jvm.ClassFile.FieldType) [.ref a0] M none r := by
  have o0 : fs_OS (sX27_init FX24_init) 0 0 (fs_Con (fk_E s0 H0 oa D) l 1 ⟨"BoardMachine$Disks$Kind", "<init>", "()V"⟩ prog_20_method_1_code 1 (Option.none : Option Jvm.ClassFile.FieldType)) := by
    intro As M r h
    obtain ⟨v0, t0, rfl, g0⟩ := fe_tR_d h
    obtain ⟨rfl, hz⟩ := fe_t0_d g0
    exact zX24_init K l v0 M r hz
  refine fs_method (own := "BoardMachine$Disks$Flushing") rfl (by decide) K.2.1 (by rw [fe_slen]; exact (Nat.le_of_ble_eq_true rfl)) (mX27_init a0 M r h) (hX27_init) 0 rfl (L0 := [(0, .ref a0)]) (fun E => fe_args_e E [.ref a0] 0) ((eX27_init FX27_init_0 a0 M).trans h) (fe_kv_k r) (fun H hR => fs_nr_o (by decide) (by decide)) ?_
  intro p e s m args below meth c Q C hnm
  have hw : s0.WarmedH s.vm := C.2.2.2.2.1
  refine fe_all C fk_hwr cX27_init [1] (by decide +kernel) (fe_fil (cps := [(1, 4, .invokevirtual 4218904)]) (by decide +kernel) ?_)
  refine fs_c1 (fs_inv_virtual (pc := 1) (n := 4218904) C (Nat.le_of_ble_eq_true rfl) (Nat.le_of_ble_eq_true rfl) (fs_lk_init (idx := 3) (y := ⟨"BoardMachine$Disks$Kind", "<init>", "()V"⟩) (bytes := prog_20_method_1_code) (maxL := 1) (d := 1) C (Nat.le_of_ble_eq_true rfl) (Nat.le_of_ble_eq_true rfl) (by decide +kernel) (kw K hw q854) (kw K hw q334) (kw K hw q853) (Or.inr ⟨_, kM K hw q869⟩) rfl ⟨by decide, by decide⟩ rfl (Nat.le_of_ble_eq_true rfl) (Nat.le_of_ble_eq_true rfl)) fs_con_mono o0) ?_
  exact fs_c0
theorem hX28_init : fe_H (sX28_init FX24_init) cX28_init [0] fe_kv [] 20 (fun _ => dX28_init FX28_init_0) := by
  intro j pc L st M r hc h
  rcases fe_mem_c hc with rfl | hc
  · obtain ⟨w0, m0, h⟩ := fe_lR_d h
    obtain ⟨rfl, hz⟩ := fe_t0_d h
    exact ⟨[(0, .ref w0)], (fe_cs m0 fe_nl), Or.inr ((bX28_init_0 FX24_init FX28_init_0 w0 M).symm.trans hz)⟩
  exact fe_mem_0 hc
theorem vX28_init : fe_SB (sX28_init FX24_init) := by
  refine ⟨?_, ?_, ?_, ?_⟩
  · intro i As M r h
    rcases fe_bc h with h | h
    · obtain ⟨v0, t0, rfl, g0⟩ := fe_tR_d h
      obtain ⟨rfl, hz⟩ := fe_t0_d g0
      exact mX24_init v0 M r hz
    exact fe_no h
  · intro i As M r h
    exact fe_no h
  · intro i As M r h
    exact fe_no h
  · intro i As M r h
    exact fe_no h
theorem eX28_init (g0 : Nat → FM → Option (FM)) (a0 : Nat) (M : FM) : dX28_init g0 0 [(0, .ref a0)] [] M = g0 a0 M := by rfl
theorem mX28_init (a0 : Nat) (M : FM) (r : FM) (h : FX28_init a0 M = some r) : fm_nx M ≤ fm_nx r ∧ fm_ns M ≤ fm_ns r :=
  fe_mono (L0 := [(0, .ref a0)]) (vX28_init) (by decide +kernel) (hX28_init) (fe_kv_k r) 0 rfl ((eX28_init FX28_init_0 a0 M).trans h)
theorem zX28_init {s0 : State} {H0 : Heap} {oa : Nat → Nat} {D : va_G} (K : fk s0 H0 oa D) (l : Launch) (a0 : Nat) (M : FM) (r : FM) (h : FX28_init a0 M = some r) : fs_Con (fk_E s0 H0 oa D) l 2 ⟨"BoardMachine$Disks$Naming", "<init>", "()V"⟩ prog_21_method_1_code 1 (Option.none : Option Jvm.ClassFile.FieldType) [.ref a0] M none r := by
  have o0 : fs_OS (sX28_init FX24_init) 0 0 (fs_Con (fk_E s0 H0 oa D) l 1 ⟨"BoardMachine$Disks$Kind", "<init>", "()V"⟩ prog_20_method_1_code 1 (Option.none : Option Jvm.ClassFile.FieldType)) := by
    intro As M r h
    obtain ⟨v0, t0, rfl, g0⟩ := fe_tR_d h
    obtain ⟨rfl, hz⟩ := fe_t0_d g0
    exact zX24_init K l v0 M r hz
  refine fs_method (own := "BoardMachine$Disks$Naming") rfl (by decide) K.2.1 (by rw [fe_slen]; exact (Nat.le_of_ble_eq_true rfl)) (mX28_init a0 M r h) (hX28_init) 0 rfl (L0 := [(0, .ref a0)]) (fun E => fe_args_e E [.ref a0] 0) ((eX28_init FX28_init_0 a0 M).trans h) (fe_kv_k r) (fun H hR => fs_nr_o (by decide) (by decide)) ?_
  intro p e s m args below meth c Q C hnm
  have hw : s0.WarmedH s.vm := C.2.2.2.2.1
  refine fe_all C fk_hwr cX28_init [1] (by decide +kernel) (fe_fil (cps := [(1, 4, .invokevirtual 4219929)]) (by decide +kernel) ?_)
  refine fs_c1 (fs_inv_virtual (pc := 1) (n := 4219929) C (Nat.le_of_ble_eq_true rfl) (Nat.le_of_ble_eq_true rfl) (fs_lk_init (idx := 3) (y := ⟨"BoardMachine$Disks$Kind", "<init>", "()V"⟩) (bytes := prog_20_method_1_code) (maxL := 1) (d := 1) C (Nat.le_of_ble_eq_true rfl) (Nat.le_of_ble_eq_true rfl) (by decide +kernel) (kw K hw q854) (kw K hw q334) (kw K hw q853) (Or.inr ⟨_, kM K hw q876⟩) rfl ⟨by decide, by decide⟩ rfl (Nat.le_of_ble_eq_true rfl) (Nat.le_of_ble_eq_true rfl)) fs_con_mono o0) ?_
  exact fs_c0
theorem hX18_init : fe_H (sX18_init FX20_init FX21_init FX23_init FX25_init FX26_init FX27_init FX28_init) cX18_init [0] fe_kv [] 59 (fun _ => dX18_init FX18_init_0) := by
  intro j pc L st M r hc h
  rcases fe_mem_c hc with rfl | hc
  · obtain ⟨w0, m0, h⟩ := fe_lR_d h
    obtain ⟨w1, m1, h⟩ := fe_lR_d h
    obtain ⟨w2, m2, h⟩ := fe_lI_d h
    obtain ⟨rfl, hz⟩ := fe_t0_d h
    exact ⟨[(0, .ref w0), (1, .ref w1), (2, .int w2)], (fe_cs m0 (fe_cs m1 (fe_cs m2 fe_nl))), Or.inr ((bX18_init_0 FX20_init FX21_init FX23_init FX25_init FX26_init FX27_init FX28_init FX18_init_0 w0 w1 w2 M).symm.trans hz)⟩
  exact fe_mem_0 hc
theorem vX18_init : fe_SB (sX18_init FX20_init FX21_init FX23_init FX25_init FX26_init FX27_init FX28_init) := by
  refine ⟨?_, ?_, ?_, ?_⟩
  · intro i As M r h
    rcases fe_bc h with h | h
    · obtain ⟨v0, t0, rfl, g0⟩ := fe_tR_d h
      obtain ⟨rfl, hz⟩ := fe_t0_d g0
      exact mX20_init v0 M r hz
    rcases fe_bc h with h | h
    · obtain ⟨v0, t0, rfl, g0⟩ := fe_tR_d h
      obtain ⟨rfl, hz⟩ := fe_t0_d g0
      exact mX21_init v0 M r hz
    rcases fe_bc h with h | h
    · obtain ⟨v0, t0, rfl, g0⟩ := fe_tR_d h
      obtain ⟨v1, t1, rfl, g1⟩ := fe_tI_d g0
      obtain ⟨rfl, hz⟩ := fe_t0_d g1
      exact mX23_init v0 v1 M r hz
    rcases fe_bc h with h | h
    · obtain ⟨v0, t0, rfl, g0⟩ := fe_tR_d h
      obtain ⟨rfl, hz⟩ := fe_t0_d g0
      exact mX25_init v0 M r hz
    rcases fe_bc h with h | h
    · obtain ⟨v0, t0, rfl, g0⟩ := fe_tR_d h
      obtain ⟨rfl, hz⟩ := fe_t0_d g0
      exact mX26_init v0 M r hz
    rcases fe_bc h with h | h
    · obtain ⟨v0, t0, rfl, g0⟩ := fe_tR_d h
      obtain ⟨rfl, hz⟩ := fe_t0_d g0
      exact mX27_init v0 M r hz
    rcases fe_bc h with h | h
    · obtain ⟨v0, t0, rfl, g0⟩ := fe_tR_d h
      obtain ⟨rfl, hz⟩ := fe_t0_d g0
      exact mX28_init v0 M r hz
    exact fe_no h
  · intro i As M r h
    exact fe_no h
  · intro i As M r h
    exact fe_no h
  · intro i As M r h
    exact fe_no h
theorem eX18_init (g0 : Nat → Nat → Int32 → FM → Option (FM)) (a0 : Nat) (a1 : Nat) (a2 : Int32) (M : FM) : dX18_init g0 0 [(0, .ref a0), (1, .ref a1), (2, .int a2)] [] M = g0 a0 a1 a2 M := by rfl
theorem mX18_init (a0 : Nat) (a1 : Nat) (a2 : Int32) (M : FM) (r : FM) (h : FX18_init a0 a1 a2 M = some r) : fm_nx M ≤ fm_nx r ∧ fm_ns M ≤ fm_ns r :=
  fe_mono (L0 := [(0, .ref a0), (1, .ref a1), (2, .int a2)]) (vX18_init) (by decide +kernel) (hX18_init) (fe_kv_k r) 0 rfl ((eX18_init FX18_init_0 a0 a1 a2 M).trans h)
theorem zX18_init {s0 : State} {H0 : Heap} {oa : Nat → Nat} {D : va_G} (K : fk s0 H0 oa D) (l : Launch) (a0 : Nat) (a1 : Nat) (a2 : Int32) (M : FM) (r : FM) (h : FX18_init a0 a1 a2 M = some r) : fs_Con (fk_E s0 H0 oa D) l 3 ⟨"BoardMachine$Disks$Device", "<init>", "(LBoardMachine$Disks$Bytes;I)V"⟩ prog_17_method_1_code 3 (Option.none : Option Jvm.ClassFile.FieldType) [.ref a0, .ref a1, .int a2] M none r := by
  have o0 : fs_OS (sX18_init FX20_init FX21_init FX23_init FX25_init FX26_init FX27_init FX28_init) 0 0 (fs_Con (fk_E s0 H0 oa D) l 1 ⟨"BoardMachine$Disks$Queue", "<init>", "()V"⟩ prog_22_method_1_code 1 (Option.none : Option Jvm.ClassFile.FieldType)) := by
    intro As M r h
    obtain ⟨v0, t0, rfl, g0⟩ := fe_tR_d h
    obtain ⟨rfl, hz⟩ := fe_t0_d g0
    exact zX20_init K l v0 M r hz
  have o1 : fs_OS (sX18_init FX20_init FX21_init FX23_init FX25_init FX26_init FX27_init FX28_init) 1 0 (fs_Con (fk_E s0 H0 oa D) l 2 ⟨"BoardMachine$Disks$Request", "<init>", "()V"⟩ prog_24_method_1_code 1 (Option.none : Option Jvm.ClassFile.FieldType)) := by
    intro As M r h
    obtain ⟨v0, t0, rfl, g0⟩ := fe_tR_d h
    obtain ⟨rfl, hz⟩ := fe_t0_d g0
    exact zX21_init K l v0 M r hz
  have o2 : fs_OS (sX18_init FX20_init FX21_init FX23_init FX25_init FX26_init FX27_init FX28_init) 2 0 (fs_Con (fk_E s0 H0 oa D) l 1 ⟨"BoardMachine$Disks$Disk", "<init>", "(I)V"⟩ prog_18_method_1_code 2 (Option.none : Option Jvm.ClassFile.FieldType)) := by
    intro As M r h
    obtain ⟨v0, t0, rfl, g0⟩ := fe_tR_d h
    obtain ⟨v1, t1, rfl, g1⟩ := fe_tI_d g0
    obtain ⟨rfl, hz⟩ := fe_t0_d g1
    exact zX23_init K l v0 v1 M r hz
  have o3 : fs_OS (sX18_init FX20_init FX21_init FX23_init FX25_init FX26_init FX27_init FX28_init) 3 0 (fs_Con (fk_E s0 H0 oa D) l 2 ⟨"BoardMachine$Disks$Reading", "<init>", "()V"⟩ prog_23_method_1_code 1 (Option.none : Option Jvm.ClassFile.FieldType)) := by
    intro As M r h
    obtain ⟨v0, t0, rfl, g0⟩ := fe_tR_d h
    obtain ⟨rfl, hz⟩ := fe_t0_d g0
    exact zX25_init K l v0 M r hz
  have o4 : fs_OS (sX18_init FX20_init FX21_init FX23_init FX25_init FX26_init FX27_init FX28_init) 4 0 (fs_Con (fk_E s0 H0 oa D) l 2 ⟨"BoardMachine$Disks$Writing", "<init>", "()V"⟩ prog_26_method_1_code 1 (Option.none : Option Jvm.ClassFile.FieldType)) := by
    intro As M r h
    obtain ⟨v0, t0, rfl, g0⟩ := fe_tR_d h
    obtain ⟨rfl, hz⟩ := fe_t0_d g0
    exact zX26_init K l v0 M r hz
  have o5 : fs_OS (sX18_init FX20_init FX21_init FX23_init FX25_init FX26_init FX27_init FX28_init) 5 0 (fs_Con (fk_E s0 H0 oa D) l 2 ⟨"BoardMachine$Disks$Flushing", "<init>", "()V"⟩ prog_19_method_1_code 1 (Option.none : Option Jvm.ClassFile.FieldType)) := by
    intro As M r h
    obtain ⟨v0, t0, rfl, g0⟩ := fe_tR_d h
    obtain ⟨rfl, hz⟩ := fe_t0_d g0
    exact zX27_init K l v0 M r hz
  have o6 : fs_OS (sX18_init FX20_init FX21_init FX23_init FX25_init FX26_init FX27_init FX28_init) 6 0 (fs_Con (fk_E s0 H0 oa D) l 2 ⟨"BoardMachine$Disks$Naming", "<init>", "()V"⟩ prog_21_method_1_code 1 (Option.none : Option Jvm.ClassFile.FieldType)) := by
    intro As M r h
    obtain ⟨v0, t0, rfl, g0⟩ := fe_tR_d h
    obtain ⟨rfl, hz⟩ := fe_t0_d g0
    exact zX28_init K l v0 M r hz
  refine fs_method (own := "BoardMachine$Disks$Device") rfl (by decide) K.2.1 (by rw [fe_slen]; exact (Nat.le_of_ble_eq_true rfl)) (mX18_init a0 a1 a2 M r h) (hX18_init) 0 rfl (L0 := [(0, .ref a0), (1, .ref a1), (2, .int a2)]) (fun E => fe_args_e E [.ref a0, .ref a1, .int a2] 0) ((eX18_init FX18_init_0 a0 a1 a2 M).trans h) (fe_kv_k r) (fun H hR => fs_nr_o (by decide) (by decide)) ?_
  intro p e s m args below meth c Q C hnm
  have hw : s0.WarmedH s.vm := C.2.2.2.2.1
  refine fe_all C fk_hwr cX18_init [1, 5, 9, 12, 16, 20, 23, 29, 32, 37, 41, 46, 49, 53, 57, 61, 64, 66, 70, 74, 77, 79, 83, 87, 90, 92, 97, 101, 104] (by decide +kernel) (fe_fil (cps := [(1, 4, .monitorenter), (5, 8, .new 1799), (9, 12, .invokevirtual 4223004), (12, 15, .putfield 251748442), (16, 19, .new 1863), (20, 23, .invokevirtual 71332893), (23, 26, .putfield 255942746), (29, 32, .anewarray 64399), (32, 35, .putfield 260137050), (37, 40, .putfield 243359834), (41, 44, .new 1475), (46, 49, .invokevirtual 142629911), (49, 52, .putfield 247554138), (53, 56, .getfield 260137050), (57, 60, .new 1664), (61, 64, .invokevirtual 205547546), (64, 65, .instanceof 955277339), (66, 69, .getfield 260137050), (70, 73, .new 1728), (74, 77, .invokevirtual 272657435), (77, 78, .instanceof 955277339), (79, 82, .getfield 260137050), (83, 86, .new 1536), (87, 90, .invokevirtual 339763224), (90, 91, .instanceof 955277339), (92, 95, .getfield 260137050), (97, 100, .new 1600), (101, 104, .invokevirtual 406873113), (104, 105, .instanceof 955277339)]) (by decide +kernel) ?_)
  refine fs_c1 (fs_init (pc := 1) (idx := 3) C (by decide +kernel) (kw K hw q724) (kw K hw q441) (kw K hw q442) ⟨(Nat.le_of_ble_eq_true rfl), (Nat.le_of_ble_eq_true rfl)⟩) ?_
  refine fs_c1 (fs_newo (pc := 5) (n := 1799) (idx := 9) (CC := "BoardMachine$Disks$Queue") (T := fT_28) (N := 7) C (by decide +kernel) (kw K hw q725) (kw K hw q726) (kw K hw q330) (by decide) (Nat.le_of_ble_eq_true rfl) rfl rfl) ?_
  refine fs_c1 (fs_inv_virtual (pc := 9) (n := 4223004) C (Nat.le_of_ble_eq_true rfl) (Nat.le_of_ble_eq_true rfl) (fs_lk_init (idx := 11) (y := ⟨"BoardMachine$Disks$Queue", "<init>", "()V"⟩) (bytes := prog_22_method_1_code) (maxL := 1) (d := 1) C (Nat.le_of_ble_eq_true rfl) (Nat.le_of_ble_eq_true rfl) (by decide +kernel) (kw K hw q729) (kw K hw q330) (kw K hw q728) (Or.inr ⟨_, kM K hw q727⟩) rfl ⟨by decide, by decide⟩ rfl (Nat.le_of_ble_eq_true rfl) (Nat.le_of_ble_eq_true rfl)) fs_con_mono o0) ?_
  refine fs_c1 (fs_putf (pc := 12) (n := 251748442) (idx := 12) (ref := "BoardMachine$Disks$Device") (O := "BoardMachine$Disks$Device") (name := "queue") (desc := "LBoardMachine$Disks$Queue;") (fin := true) (ty := (.object "BoardMachine$Disks$Queue")) C (by decide +kernel) (Or.inr ⟨rfl, kw K hw q882, hnm, rfl⟩) (fun _ h => h) (Nat.le_of_ble_eq_true rfl) (Nat.le_of_ble_eq_true rfl) (Nat.le_of_ble_eq_true rfl) rfl rfl (by decide) (fs_one (⟨rfl, ff_22_60 s0 H0 oa D⟩))) ?_
  refine fs_c1 (fs_newo (pc := 16) (n := 1863) (idx := 18) (CC := "BoardMachine$Disks$Request") (T := fT_29) (N := 7) C (by decide +kernel) (kw K hw q759) (kw K hw q760) (kw K hw q331) (by decide) (Nat.le_of_ble_eq_true rfl) rfl rfl) ?_
  refine fs_c1 (fs_inv_virtual (pc := 20) (n := 71332893) C (Nat.le_of_ble_eq_true rfl) (Nat.le_of_ble_eq_true rfl) (fs_lk_init (idx := 20) (y := ⟨"BoardMachine$Disks$Request", "<init>", "()V"⟩) (bytes := prog_24_method_1_code) (maxL := 1) (d := 2) C (Nat.le_of_ble_eq_true rfl) (Nat.le_of_ble_eq_true rfl) (by decide +kernel) (kw K hw q763) (kw K hw q331) (kw K hw q762) (Or.inr ⟨_, kM K hw q761⟩) rfl ⟨by decide, by decide⟩ rfl (Nat.le_of_ble_eq_true rfl) (Nat.le_of_ble_eq_true rfl)) fs_con_mono o1) ?_
  refine fs_c1 (fs_putf (pc := 23) (n := 255942746) (idx := 21) (ref := "BoardMachine$Disks$Device") (O := "BoardMachine$Disks$Device") (name := "request") (desc := "LBoardMachine$Disks$Request;") (fin := true) (ty := (.object "BoardMachine$Disks$Request")) C (by decide +kernel) (Or.inr ⟨rfl, kw K hw q883, hnm, rfl⟩) (fun _ h => h) (Nat.le_of_ble_eq_true rfl) (Nat.le_of_ble_eq_true rfl) (Nat.le_of_ble_eq_true rfl) rfl rfl (by decide) (fs_one (⟨rfl, ff_22_61 s0 H0 oa D⟩))) ?_
  refine fs_c1 (fs_newr (pc := 29) (n := 64399) (t := 911) (idx := 25) (CC := "BoardMachine$Disks$Kind") C (by decide +kernel) (kw K hw q827) (kO K hw q828) rfl (Nat.le_of_ble_eq_true rfl) rfl rfl) ?_
  refine fs_c1 (fs_putf (pc := 32) (n := 260137050) (idx := 27) (ref := "BoardMachine$Disks$Device") (O := "BoardMachine$Disks$Device") (name := "kinds") (desc := "[LBoardMachine$Disks$Kind;") (fin := true) (ty := (.array (.object "BoardMachine$Disks$Kind"))) C (by decide +kernel) (Or.inr ⟨rfl, kw K hw q884, hnm, rfl⟩) (fun _ h => h) (Nat.le_of_ble_eq_true rfl) (Nat.le_of_ble_eq_true rfl) (Nat.le_of_ble_eq_true rfl) rfl rfl (by decide) (fs_one (⟨rfl, ff_22_62 s0 H0 oa D⟩))) ?_
  refine fs_c1 (fs_putf (pc := 37) (n := 243359834) (idx := 31) (ref := "BoardMachine$Disks$Device") (O := "BoardMachine$Disks$Device") (name := "memory") (desc := "LBoardMachine$Disks$Bytes;") (fin := true) (ty := (.object "BoardMachine$Disks$Bytes")) C (by decide +kernel) (Or.inr ⟨rfl, kw K hw q878, hnm, rfl⟩) (fun _ h => h) (Nat.le_of_ble_eq_true rfl) (Nat.le_of_ble_eq_true rfl) (Nat.le_of_ble_eq_true rfl) rfl rfl (by decide) (fs_one (⟨rfl, ff_22_58 s0 H0 oa D⟩))) ?_
  refine fs_c1 (fs_newo (pc := 41) (n := 1475) (idx := 35) (CC := "BoardMachine$Disks$Disk") (T := fT_23) (N := 3) C (by decide +kernel) (kw K hw q829) (kw K hw q830) (kw K hw q333) (by decide) (Nat.le_of_ble_eq_true rfl) rfl rfl) ?_
  refine fs_c1 (fs_inv_virtual (pc := 46) (n := 142629911) C (Nat.le_of_ble_eq_true rfl) (Nat.le_of_ble_eq_true rfl) (fs_lk_init (idx := 37) (y := ⟨"BoardMachine$Disks$Disk", "<init>", "(I)V"⟩) (bytes := prog_18_method_1_code) (maxL := 2) (d := 1) C (Nat.le_of_ble_eq_true rfl) (Nat.le_of_ble_eq_true rfl) (by decide +kernel) (kw K hw q833) (kw K hw q333) (kw K hw q832) (Or.inl (kw K hw q831)) rfl ⟨by decide, by decide⟩ rfl (Nat.le_of_ble_eq_true rfl) (Nat.le_of_ble_eq_true rfl)) fs_con_mono o2) ?_
  refine fs_c1 (fs_putf (pc := 49) (n := 247554138) (idx := 40) (ref := "BoardMachine$Disks$Device") (O := "BoardMachine$Disks$Device") (name := "disk") (desc := "LBoardMachine$Disks$Disk;") (fin := true) (ty := (.object "BoardMachine$Disks$Disk")) C (by decide +kernel) (Or.inr ⟨rfl, kw K hw q879, hnm, rfl⟩) (fun _ h => h) (Nat.le_of_ble_eq_true rfl) (Nat.le_of_ble_eq_true rfl) (Nat.le_of_ble_eq_true rfl) rfl rfl (by decide) (fs_one (⟨rfl, ff_22_59 s0 H0 oa D⟩))) ?_
  refine fs_c1 (fs_getf (pc := 53) (n := 260137050) (idx := 27) (ref := "BoardMachine$Disks$Device") (O := "BoardMachine$Disks$Device") (name := "kinds") (desc := "[LBoardMachine$Disks$Kind;") C (by decide +kernel) (Or.inl (kw K hw q884)) (fun _ h => h) (Nat.le_of_ble_eq_true rfl) (Nat.le_of_ble_eq_true rfl) (fs_one (⟨_, ff_22_62 s0 H0 oa D⟩))) ?_
  refine fs_c1 (fs_newo (pc := 57) (n := 1664) (idx := 44) (CC := "BoardMachine$Disks$Reading") (T := fT_26) (N := 0) C (by decide +kernel) (kw K hw q847) (kw K hw q848) (kw K hw q335) (by decide) (Nat.le_of_ble_eq_true rfl) rfl rfl) ?_
  refine fs_c1 (fs_inv_virtual (pc := 61) (n := 205547546) C (Nat.le_of_ble_eq_true rfl) (Nat.le_of_ble_eq_true rfl) (fs_lk_init (idx := 46) (y := ⟨"BoardMachine$Disks$Reading", "<init>", "()V"⟩) (bytes := prog_23_method_1_code) (maxL := 1) (d := 2) C (Nat.le_of_ble_eq_true rfl) (Nat.le_of_ble_eq_true rfl) (by decide +kernel) (kw K hw q851) (kw K hw q335) (kw K hw q850) (Or.inr ⟨_, kM K hw q849⟩) rfl ⟨by decide, by decide⟩ rfl (Nat.le_of_ble_eq_true rfl) (Nat.le_of_ble_eq_true rfl)) fs_con_mono o3) ?_
  refine fs_c1 (fs_astr (pc := 64) (n := 955277339) (EE := "BoardMachine$Disks$Kind") C (by decide +kernel) (Nat.le_of_ble_eq_true rfl) rfl rfl (Nat.le_of_ble_eq_true rfl) (Nat.le_of_ble_eq_true rfl) (fs_rc (⟨_, rfl, Or.inr (kC K hw q6528)⟩) (fs_rc (⟨_, rfl, Or.inr (kC K hw q6529)⟩) (fs_rc (⟨_, rfl, Or.inr (kC K hw q6530)⟩) (fs_one (⟨_, rfl, Or.inr (kC K hw q6531)⟩)))))) ?_
  refine fs_c1 (fs_getf (pc := 66) (n := 260137050) (idx := 27) (ref := "BoardMachine$Disks$Device") (O := "BoardMachine$Disks$Device") (name := "kinds") (desc := "[LBoardMachine$Disks$Kind;") C (by decide +kernel) (Or.inl (kw K hw q884)) (fun _ h => h) (Nat.le_of_ble_eq_true rfl) (Nat.le_of_ble_eq_true rfl) (fs_one (⟨_, ff_22_62 s0 H0 oa D⟩))) ?_
  refine fs_c1 (fs_newo (pc := 70) (n := 1728) (idx := 47) (CC := "BoardMachine$Disks$Writing") (T := fT_27) (N := 0) C (by decide +kernel) (kw K hw q857) (kw K hw q858) (kw K hw q336) (by decide) (Nat.le_of_ble_eq_true rfl) rfl rfl) ?_
  refine fs_c1 (fs_inv_virtual (pc := 74) (n := 272657435) C (Nat.le_of_ble_eq_true rfl) (Nat.le_of_ble_eq_true rfl) (fs_lk_init (idx := 49) (y := ⟨"BoardMachine$Disks$Writing", "<init>", "()V"⟩) (bytes := prog_26_method_1_code) (maxL := 1) (d := 2) C (Nat.le_of_ble_eq_true rfl) (Nat.le_of_ble_eq_true rfl) (by decide +kernel) (kw K hw q861) (kw K hw q336) (kw K hw q860) (Or.inr ⟨_, kM K hw q859⟩) rfl ⟨by decide, by decide⟩ rfl (Nat.le_of_ble_eq_true rfl) (Nat.le_of_ble_eq_true rfl)) fs_con_mono o4) ?_
  refine fs_c1 (fs_astr (pc := 77) (n := 955277339) (EE := "BoardMachine$Disks$Kind") C (by decide +kernel) (Nat.le_of_ble_eq_true rfl) rfl rfl (Nat.le_of_ble_eq_true rfl) (Nat.le_of_ble_eq_true rfl) (fs_rc (⟨_, rfl, Or.inr (kC K hw q6528)⟩) (fs_rc (⟨_, rfl, Or.inr (kC K hw q6529)⟩) (fs_rc (⟨_, rfl, Or.inr (kC K hw q6530)⟩) (fs_one (⟨_, rfl, Or.inr (kC K hw q6531)⟩)))))) ?_
  refine fs_c1 (fs_getf (pc := 79) (n := 260137050) (idx := 27) (ref := "BoardMachine$Disks$Device") (O := "BoardMachine$Disks$Device") (name := "kinds") (desc := "[LBoardMachine$Disks$Kind;") C (by decide +kernel) (Or.inl (kw K hw q884)) (fun _ h => h) (Nat.le_of_ble_eq_true rfl) (Nat.le_of_ble_eq_true rfl) (fs_one (⟨_, ff_22_62 s0 H0 oa D⟩))) ?_
  refine fs_c1 (fs_newo (pc := 83) (n := 1536) (idx := 50) (CC := "BoardMachine$Disks$Flushing") (T := fT_24) (N := 0) C (by decide +kernel) (kw K hw q864) (kw K hw q865) (kw K hw q337) (by decide) (Nat.le_of_ble_eq_true rfl) rfl rfl) ?_
  refine fs_c1 (fs_inv_virtual (pc := 87) (n := 339763224) C (Nat.le_of_ble_eq_true rfl) (Nat.le_of_ble_eq_true rfl) (fs_lk_init (idx := 52) (y := ⟨"BoardMachine$Disks$Flushing", "<init>", "()V"⟩) (bytes := prog_19_method_1_code) (maxL := 1) (d := 2) C (Nat.le_of_ble_eq_true rfl) (Nat.le_of_ble_eq_true rfl) (by decide +kernel) (kw K hw q868) (kw K hw q337) (kw K hw q867) (Or.inr ⟨_, kM K hw q866⟩) rfl ⟨by decide, by decide⟩ rfl (Nat.le_of_ble_eq_true rfl) (Nat.le_of_ble_eq_true rfl)) fs_con_mono o5) ?_
  refine fs_c1 (fs_astr (pc := 90) (n := 955277339) (EE := "BoardMachine$Disks$Kind") C (by decide +kernel) (Nat.le_of_ble_eq_true rfl) rfl rfl (Nat.le_of_ble_eq_true rfl) (Nat.le_of_ble_eq_true rfl) (fs_rc (⟨_, rfl, Or.inr (kC K hw q6528)⟩) (fs_rc (⟨_, rfl, Or.inr (kC K hw q6529)⟩) (fs_rc (⟨_, rfl, Or.inr (kC K hw q6530)⟩) (fs_one (⟨_, rfl, Or.inr (kC K hw q6531)⟩)))))) ?_
  refine fs_c1 (fs_getf (pc := 92) (n := 260137050) (idx := 27) (ref := "BoardMachine$Disks$Device") (O := "BoardMachine$Disks$Device") (name := "kinds") (desc := "[LBoardMachine$Disks$Kind;") C (by decide +kernel) (Or.inl (kw K hw q884)) (fun _ h => h) (Nat.le_of_ble_eq_true rfl) (Nat.le_of_ble_eq_true rfl) (fs_one (⟨_, ff_22_62 s0 H0 oa D⟩))) ?_
  refine fs_c1 (fs_newo (pc := 97) (n := 1600) (idx := 53) (CC := "BoardMachine$Disks$Naming") (T := fT_25) (N := 0) C (by decide +kernel) (kw K hw q871) (kw K hw q872) (kw K hw q338) (by decide) (Nat.le_of_ble_eq_true rfl) rfl rfl) ?_
  refine fs_c1 (fs_inv_virtual (pc := 101) (n := 406873113) C (Nat.le_of_ble_eq_true rfl) (Nat.le_of_ble_eq_true rfl) (fs_lk_init (idx := 55) (y := ⟨"BoardMachine$Disks$Naming", "<init>", "()V"⟩) (bytes := prog_21_method_1_code) (maxL := 1) (d := 2) C (Nat.le_of_ble_eq_true rfl) (Nat.le_of_ble_eq_true rfl) (by decide +kernel) (kw K hw q875) (kw K hw q338) (kw K hw q874) (Or.inr ⟨_, kM K hw q873⟩) rfl ⟨by decide, by decide⟩ rfl (Nat.le_of_ble_eq_true rfl) (Nat.le_of_ble_eq_true rfl)) fs_con_mono o6) ?_
  refine fs_c1 (fs_astr (pc := 104) (n := 955277339) (EE := "BoardMachine$Disks$Kind") C (by decide +kernel) (Nat.le_of_ble_eq_true rfl) rfl rfl (Nat.le_of_ble_eq_true rfl) (Nat.le_of_ble_eq_true rfl) (fs_rc (⟨_, rfl, Or.inr (kC K hw q6528)⟩) (fs_rc (⟨_, rfl, Or.inr (kC K hw q6529)⟩) (fs_rc (⟨_, rfl, Or.inr (kC K hw q6530)⟩) (fs_one (⟨_, rfl, Or.inr (kC K hw q6531)⟩)))))) ?_
  exact fs_c0
