/-! contracts of methods, printed by gen/snd.py -/
set_option maxRecDepth 100000
set_option maxHeartbeats 4000000
theorem hX9_lay (n : Nat) : fe_H (sX9_lay (FX3_addNumber n) (FX9_node n) FX3_addAll (FX9_head n)) cX9_lay [0, 16, 43, 51, 98] fe_ki [16, 43, 51, 98] 93 (fun j => dX9_lay (FX9_lay_0 n (FX9_lay_L n j).1 (FX9_lay_L n j).2.1 (FX9_lay_L n j).2.2.1 (FX9_lay_L n j).2.2.2) (FX9_lay_L n j).1 (FX9_lay_L n j).2.1 (FX9_lay_L n j).2.2.1 (FX9_lay_L n j).2.2.2) := by
  intro j pc L st M r hc h
  rcases fe_mem_c hc with rfl | hc
  · obtain ⟨w0, m0, h⟩ := fe_lR_d h
    obtain ⟨w1, m1, h⟩ := fe_lR_d h
    obtain ⟨rfl, hz⟩ := fe_t0_d h
    exact ⟨[(0, .ref w0), (1, .ref w1)], (fe_cs m0 (fe_cs m1 fe_nl)), Or.inr ((bX9_lay_0 (FX3_addNumber n) (FX9_node n) FX3_addAll (FX9_head n) (FX9_lay_0 n (FX9_lay_L n j).1 (FX9_lay_L n j).2.1 (FX9_lay_L n j).2.2.1 (FX9_lay_L n j).2.2.2) (FX9_lay_L n j).1 (FX9_lay_L n j).2.1 (FX9_lay_L n j).2.2.1 (FX9_lay_L n j).2.2.2 w0 w1 M).symm.trans hz)⟩
  rcases fe_mem_c hc with rfl | hc
  · obtain ⟨w0, m0, h⟩ := fe_lR_d h
    obtain ⟨w1, m1, h⟩ := fe_lR_d h
    obtain ⟨rfl, hz⟩ := fe_t0_d h
    cases j with
    | zero => exact fe_no hz
    | succ j => exact ⟨[(0, .ref w0), (1, .ref w1)], (fe_cs m0 (fe_cs m1 fe_nl)), Or.inl ⟨j, rfl, (bX9_lay_16 (FX3_addNumber n) (FX9_node n) FX3_addAll (FX9_head n) (FX9_lay_0 n (FX9_lay_L n j).1 (FX9_lay_L n j).2.1 (FX9_lay_L n j).2.2.1 (FX9_lay_L n j).2.2.2) (FX9_lay_L n j).1 (FX9_lay_L n j).2.1 (FX9_lay_L n j).2.2.1 (FX9_lay_L n j).2.2.2 w0 w1 M).symm.trans hz⟩⟩
  rcases fe_mem_c hc with rfl | hc
  · obtain ⟨w0, m0, h⟩ := fe_lR_d h
    obtain ⟨w1, m1, h⟩ := fe_lR_d h
    obtain ⟨w2, m2, h⟩ := fe_lI_d h
    obtain ⟨w3, m3, h⟩ := fe_lI_d h
    obtain ⟨rfl, hz⟩ := fe_t0_d h
    cases j with
    | zero => exact fe_no hz
    | succ j => exact ⟨[(0, .ref w0), (1, .ref w1), (2, .int w2), (3, .int w3)], (fe_cs m0 (fe_cs m1 (fe_cs m2 (fe_cs m3 fe_nl)))), Or.inl ⟨j, rfl, (bX9_lay_43 (FX3_addNumber n) (FX9_node n) FX3_addAll (FX9_head n) (FX9_lay_0 n (FX9_lay_L n j).1 (FX9_lay_L n j).2.1 (FX9_lay_L n j).2.2.1 (FX9_lay_L n j).2.2.2) (FX9_lay_L n j).1 (FX9_lay_L n j).2.1 (FX9_lay_L n j).2.2.1 (FX9_lay_L n j).2.2.2 w0 w1 w2 w3 M).symm.trans hz⟩⟩
  rcases fe_mem_c hc with rfl | hc
  · obtain ⟨w0, m0, h⟩ := fe_lR_d h
    obtain ⟨w1, m1, h⟩ := fe_lR_d h
    obtain ⟨w2, m2, h⟩ := fe_lI_d h
    obtain ⟨w3, m3, h⟩ := fe_lI_d h
    obtain ⟨rfl, hz⟩ := fe_t0_d h
    cases j with
    | zero => exact fe_no hz
    | succ j => exact ⟨[(0, .ref w0), (1, .ref w1), (2, .int w2), (3, .int w3)], (fe_cs m0 (fe_cs m1 (fe_cs m2 (fe_cs m3 fe_nl)))), Or.inl ⟨j, rfl, (bX9_lay_51 (FX3_addNumber n) (FX9_node n) FX3_addAll (FX9_head n) (FX9_lay_0 n (FX9_lay_L n j).1 (FX9_lay_L n j).2.1 (FX9_lay_L n j).2.2.1 (FX9_lay_L n j).2.2.2) (FX9_lay_L n j).1 (FX9_lay_L n j).2.1 (FX9_lay_L n j).2.2.1 (FX9_lay_L n j).2.2.2 w0 w1 w2 w3 M).symm.trans hz⟩⟩
  rcases fe_mem_c hc with rfl | hc
  · obtain ⟨w0, m0, h⟩ := fe_lR_d h
    obtain ⟨w2, m2, h⟩ := fe_lI_d h
    obtain ⟨rfl, hz⟩ := fe_t0_d h
    cases j with
    | zero => exact fe_no hz
    | succ j => exact ⟨[(0, .ref w0), (2, .int w2)], (fe_cs m0 (fe_cs m2 fe_nl)), Or.inl ⟨j, rfl, (bX9_lay_98 (FX3_addNumber n) (FX9_node n) FX3_addAll (FX9_head n) (FX9_lay_0 n (FX9_lay_L n j).1 (FX9_lay_L n j).2.1 (FX9_lay_L n j).2.2.1 (FX9_lay_L n j).2.2.2) (FX9_lay_L n j).1 (FX9_lay_L n j).2.1 (FX9_lay_L n j).2.2.1 (FX9_lay_L n j).2.2.2 w0 w2 M).symm.trans hz⟩⟩
  exact fe_mem_0 hc
theorem vX9_lay (n : Nat) : fe_SB (sX9_lay (FX3_addNumber n) (FX9_node n) FX3_addAll (FX9_head n)) := by
  refine ⟨?_, ?_, ?_, ?_⟩
  · intro i As M r h
    rcases fe_bc h with h | h
    · obtain ⟨v0, t0, rfl, g0⟩ := fe_tR_d h
      obtain ⟨v1, t1, rfl, g1⟩ := fe_tI_d g0
      obtain ⟨rfl, hz⟩ := fe_t0_d g1
      exact mX3_addNumber n v0 v1 M r hz
    rcases fe_bc h with h | h
    · obtain ⟨v0, t0, rfl, g0⟩ := fe_tR_d h
      obtain ⟨v1, t1, rfl, g1⟩ := fe_tR_d g0
      obtain ⟨v2, t2, rfl, g2⟩ := fe_tR_d g1
      obtain ⟨rfl, hz⟩ := fe_t0_d g2
      exact mX9_node n v0 v1 v2 M r hz
    rcases fe_bc h with h | h
    · obtain ⟨v0, t0, rfl, g0⟩ := fe_tR_d h
      obtain ⟨v1, t1, rfl, g1⟩ := fe_tR_d g0
      obtain ⟨v2, t2, rfl, g2⟩ := fe_tI_d g1
      obtain ⟨v3, t3, rfl, g3⟩ := fe_tI_d g2
      obtain ⟨rfl, hz⟩ := fe_t0_d g3
      exact mX3_addAll v0 v1 v2 v3 M r hz
    rcases fe_bc h with h | h
    · obtain ⟨v0, t0, rfl, g0⟩ := fe_tR_d h
      obtain ⟨v1, t1, rfl, g1⟩ := fe_tI_d g0
      obtain ⟨v2, t2, rfl, g2⟩ := fe_tI_d g1
      obtain ⟨rfl, hz⟩ := fe_t0_d g2
      exact mX9_head n v0 v1 v2 M r hz
    exact fe_no h
  · intro i As M r h
    exact fe_no h
  · intro i As M r h
    exact fe_no h
  · intro i As M r h
    exact fe_no h
theorem eX9_lay (g0 : Nat → Nat → FM → Option (Int32 × FM)) (k16 : Nat → Nat → FM → Option (Int32 × FM)) (k43 : Nat → Nat → Int32 → Int32 → FM → Option (Int32 × FM)) (k51 : Nat → Nat → Int32 → Int32 → FM → Option (Int32 × FM)) (k98 : Nat → Int32 → FM → Option (Int32 × FM)) (a0 : Nat) (a1 : Nat) (M : FM) : dX9_lay g0 k16 k43 k51 k98 0 [(0, .ref a0), (1, .ref a1)] [] M = g0 a0 a1 M := by rfl
theorem mX9_lay (n : Nat) (a0 : Nat) (a1 : Nat) (M : FM) (r : Int32 × FM) (h : FX9_lay n a0 a1 M = some r) : fm_nx M ≤ fm_nx r.2 ∧ fm_ns M ≤ fm_ns r.2 :=
  fe_mono (L0 := [(0, .ref a0), (1, .ref a1)]) (vX9_lay n) (by decide +kernel) (hX9_lay n) (fe_ki_k r) n rfl ((eX9_lay (FX9_lay_0 n (FX9_lay_L n n).1 (FX9_lay_L n n).2.1 (FX9_lay_L n n).2.2.1 (FX9_lay_L n n).2.2.2) (FX9_lay_L n n).1 (FX9_lay_L n n).2.1 (FX9_lay_L n n).2.2.1 (FX9_lay_L n n).2.2.2 a0 a1 M).trans h)
theorem zX9_lay {s0 : State} {H0 : Heap} {oa : Nat → Nat} {D : va_G} (K : fk s0 H0 oa D) (l : Launch) (n : Nat) (a0 : Nat) (a1 : Nat) (M : FM) (r : Int32 × FM) (h : FX9_lay n a0 a1 M = some r) : fs_Con (fk_E s0 H0 oa D) l 5 ⟨"BoardMachine$Trees$Press", "lay", "(LBoardMachine$Trees$Tree;)I"⟩ prog_98_method_5_code 5 (Option.some Jvm.ClassFile.FieldType.int) [.ref a0, .ref a1] M (some (.int r.1)) r.2 := by
  have o0 : fs_OS (sX9_lay (FX3_addNumber n) (FX9_node n) FX3_addAll (FX9_head n)) 0 0 (fs_Con (fk_E s0 H0 oa D) l 2 ⟨"BoardMachine$Trees$Row", "addNumber", "(I)V"⟩ prog_100_method_4_code 3 (Option.none : Option Jvm.ClassFile.FieldType)) := by
    intro As M r h
    obtain ⟨v0, t0, rfl, g0⟩ := fe_tR_d h
    obtain ⟨v1, t1, rfl, g1⟩ := fe_tI_d g0
    obtain ⟨rfl, hz⟩ := fe_t0_d g1
    exact zX3_addNumber K l n v0 v1 M r hz
  have o1 : fs_OS (sX9_lay (FX3_addNumber n) (FX9_node n) FX3_addAll (FX9_head n)) 1 0 (fs_Con (fk_E s0 H0 oa D) l 4 ⟨"BoardMachine$Trees$Press", "node", "(LBoardMachine$Trees$Tree;LBoardMachine$Trees$Node;)V"⟩ prog_98_method_3_code 5 (Option.none : Option Jvm.ClassFile.FieldType)) := by
    intro As M r h
    obtain ⟨v0, t0, rfl, g0⟩ := fe_tR_d h
    obtain ⟨v1, t1, rfl, g1⟩ := fe_tR_d g0
    obtain ⟨v2, t2, rfl, g2⟩ := fe_tR_d g1
    obtain ⟨rfl, hz⟩ := fe_t0_d g2
    exact zX9_node K l n v0 v1 v2 M r hz
  have o2 : fs_OS (sX9_lay (FX3_addNumber n) (FX9_node n) FX3_addAll (FX9_head n)) 2 0 (fs_Con (fk_E s0 H0 oa D) l 2 ⟨"BoardMachine$Trees$Row", "addAll", "(LBoardMachine$Trees$Row;II)V"⟩ prog_100_method_8_code 4 (Option.none : Option Jvm.ClassFile.FieldType)) := by
    intro As M r h
    obtain ⟨v0, t0, rfl, g0⟩ := fe_tR_d h
    obtain ⟨v1, t1, rfl, g1⟩ := fe_tR_d g0
    obtain ⟨v2, t2, rfl, g2⟩ := fe_tI_d g1
    obtain ⟨v3, t3, rfl, g3⟩ := fe_tI_d g2
    obtain ⟨rfl, hz⟩ := fe_t0_d g3
    exact zX3_addAll K l v0 v1 v2 v3 M r hz
  have o3 : fs_OS (sX9_lay (FX3_addNumber n) (FX9_node n) FX3_addAll (FX9_head n)) 3 0 (fs_Con (fk_E s0 H0 oa D) l 2 ⟨"BoardMachine$Trees$Press", "head", "(II)V"⟩ prog_98_method_4_code 3 (Option.none : Option Jvm.ClassFile.FieldType)) := by
    intro As M r h
    obtain ⟨v0, t0, rfl, g0⟩ := fe_tR_d h
    obtain ⟨v1, t1, rfl, g1⟩ := fe_tI_d g0
    obtain ⟨v2, t2, rfl, g2⟩ := fe_tI_d g1
    obtain ⟨rfl, hz⟩ := fe_t0_d g2
    exact zX9_head K l n v0 v1 v2 M r hz
  refine fs_method (own := "BoardMachine$Trees$Press") rfl (by decide) K.2.1 (by rw [fe_slen]; exact (Nat.le_of_ble_eq_true rfl)) (mX9_lay n a0 a1 M r h) (hX9_lay n) n rfl (L0 := [(0, .ref a0), (1, .ref a1)]) (fun E => fe_args_e E [.ref a0, .ref a1] 0) ((eX9_lay (FX9_lay_0 n (FX9_lay_L n n).1 (FX9_lay_L n n).2.1 (FX9_lay_L n n).2.2.1 (FX9_lay_L n n).2.2.2) (FX9_lay_L n n).1 (FX9_lay_L n n).2.1 (FX9_lay_L n n).2.2.1 (FX9_lay_L n n).2.2.2 a0 a1 M).trans h) (fe_ki_k r) (fun H hR => fs_nr_o (by decide) (by decide)) ?_
  intro p e s m args below meth c Q C hnm
  have hw : s0.WarmedH s.vm := C.2.2.2.2.1
  refine fe_all C fk_hwr cX9_lay [1, 5, 9, 13, 17, 20, 29, 33, 45, 53, 58, 65, 69, 81, 86, 103, 107, 117, 122, 126, 129, 137, 140, 146, 150, 155, 158, 161, 168, 172, 175] (by decide +kernel) (fe_fil (cps := [(1, 4, .getfield 1078280530), (5, 8, .putfield 1099260248), (9, 12, .getfield 1074086226), (13, 16, .putfield 1099260248), (17, 20, .getfield 1074086226), (20, 23, .getfield 1099260248), (29, 32, .getfield 1074086226), (33, 36, .invokevirtual 8476758), (45, 48, .getfield 1116041564), (53, 56, .getfield 1107652958), (58, 61, .getfield 1048912200), (65, 68, .getfield 1074086226), (69, 72, .invokevirtual 8476758), (81, 84, .getfield 1107652958), (86, 89, .invokevirtual 79777876), (103, 106, .getfield 1074086226), (107, 110, .invokevirtual 8476758), (117, 120, .getfield 1074086226), (122, 125, .invokevirtual 8476758), (126, 129, .getfield 1074086226), (129, 132, .getfield 1099260248), (137, 140, .getfield 1074086226), (140, 143, .getfield 1099260248), (146, 149, .getfield 1074086226), (150, 153, .getfield 1078280530), (155, 158, .getfield 1078280530), (158, 161, .getfield 1099260248), (161, 164, .invokevirtual 151083094), (168, 171, .invokevirtual 213995604), (172, 175, .getfield 1074086226), (175, 178, .getfield 1099260248)]) (by decide +kernel) ?_)
  refine fs_c1 (fs_getf (pc := 1) (n := 1078280530) (idx := 21) (ref := "BoardMachine$Trees$Press") (O := "BoardMachine$Trees$Press") (name := "names") (desc := "LBoardMachine$Trees$Row;") C (by decide +kernel) (Or.inl (kw K hw q601)) (fun _ h => h) (Nat.le_of_ble_eq_true rfl) (Nat.le_of_ble_eq_true rfl) (fs_one (⟨_, ff_84_257 s0 H0 oa D⟩))) ?_
  refine fs_c1 (fs_putf (pc := 5) (n := 1099260248) (idx := 24) (ref := "BoardMachine$Trees$Row") (O := "BoardMachine$Trees$Row") (name := "size") (desc := "I") (fin := false) (ty := .int) C (by decide +kernel) (Or.inl ⟨rfl, Or.inr ⟨_, kF K hw q460⟩⟩) (fun _ h => h) (Nat.le_of_ble_eq_true rfl) (Nat.le_of_ble_eq_true rfl) (Nat.le_of_ble_eq_true rfl) rfl rfl (by decide) (fs_one (⟨rfl, ff_86_262 s0 H0 oa D⟩))) ?_
  refine fs_c1 (fs_getf (pc := 9) (n := 1074086226) (idx := 15) (ref := "BoardMachine$Trees$Press") (O := "BoardMachine$Trees$Press") (name := "out") (desc := "LBoardMachine$Trees$Row;") C (by decide +kernel) (Or.inl (kw K hw q599)) (fun _ h => h) (Nat.le_of_ble_eq_true rfl) (Nat.le_of_ble_eq_true rfl) (fs_one (⟨_, ff_84_256 s0 H0 oa D⟩))) ?_
  refine fs_c1 (fs_putf (pc := 13) (n := 1099260248) (idx := 24) (ref := "BoardMachine$Trees$Row") (O := "BoardMachine$Trees$Row") (name := "size") (desc := "I") (fin := false) (ty := .int) C (by decide +kernel) (Or.inl ⟨rfl, Or.inr ⟨_, kF K hw q460⟩⟩) (fun _ h => h) (Nat.le_of_ble_eq_true rfl) (Nat.le_of_ble_eq_true rfl) (Nat.le_of_ble_eq_true rfl) rfl rfl (by decide) (fs_one (⟨rfl, ff_86_262 s0 H0 oa D⟩))) ?_
  refine fs_c1 (fs_getf (pc := 17) (n := 1074086226) (idx := 15) (ref := "BoardMachine$Trees$Press") (O := "BoardMachine$Trees$Press") (name := "out") (desc := "LBoardMachine$Trees$Row;") C (by decide +kernel) (Or.inl (kw K hw q599)) (fun _ h => h) (Nat.le_of_ble_eq_true rfl) (Nat.le_of_ble_eq_true rfl) (fs_one (⟨_, ff_84_256 s0 H0 oa D⟩))) ?_
  refine fs_c1 (fs_getf (pc := 20) (n := 1099260248) (idx := 24) (ref := "BoardMachine$Trees$Row") (O := "BoardMachine$Trees$Row") (name := "size") (desc := "I") C (by decide +kernel) (Or.inr ⟨_, kF K hw q460⟩) (fun _ h => h) (Nat.le_of_ble_eq_true rfl) (Nat.le_of_ble_eq_true rfl) (fs_one (⟨_, ff_86_262 s0 H0 oa D⟩))) ?_
  refine fs_c1 (fs_getf (pc := 29) (n := 1074086226) (idx := 15) (ref := "BoardMachine$Trees$Press") (O := "BoardMachine$Trees$Press") (name := "out") (desc := "LBoardMachine$Trees$Row;") C (by decide +kernel) (Or.inl (kw K hw q599)) (fun _ h => h) (Nat.le_of_ble_eq_true rfl) (Nat.le_of_ble_eq_true rfl) (fs_one (⟨_, ff_84_256 s0 H0 oa D⟩))) ?_
  refine fs_c1 (fs_inv_virtual (pc := 33) (n := 8476758) C (Nat.le_of_ble_eq_true rfl) (Nat.le_of_ble_eq_true rfl) (fs_lk_virtual (idx := 54) (y := ⟨"BoardMachine$Trees$Row", "addNumber", "(I)V"⟩) (bytes := prog_100_method_4_code) (maxL := 3) (rt := (Option.none : Option Jvm.ClassFile.FieldType)) (d := 2) C (Nat.le_of_ble_eq_true rfl) (Nat.le_of_ble_eq_true rfl) (by decide +kernel) (kw K hw q2220) (kw K hw q313) (kw K hw q2218) (Or.inl (kw K hw q2351)) ⟨by decide, by decide⟩ rfl (Nat.le_of_ble_eq_true rfl) (Nat.le_of_ble_eq_true rfl) (fs_one (⟨_, rfl, kw K hw q2219⟩))) fs_con_mono o0) ?_
  refine fs_c1 (fs_getf (pc := 45) (n := 1116041564) (idx := 90) (ref := "BoardMachine$Trees$Tree") (O := "BoardMachine$Trees$Tree") (name := "nodeCount") (desc := "I") C (by decide +kernel) (Or.inr ⟨_, kF K hw q574⟩) (fun _ h => h) (Nat.le_of_ble_eq_true rfl) (Nat.le_of_ble_eq_true rfl) (fs_one (⟨_, ff_87_266 s0 H0 oa D⟩))) ?_
  refine fs_c1 (fs_getf (pc := 53) (n := 1107652958) (idx := 93) (ref := "BoardMachine$Trees$Tree") (O := "BoardMachine$Trees$Tree") (name := "nodes") (desc := "[LBoardMachine$Trees$Node;") C (by decide +kernel) (Or.inr ⟨_, kF K hw q570⟩) (fun _ h => h) (Nat.le_of_ble_eq_true rfl) (Nat.le_of_ble_eq_true rfl) (fs_one (⟨_, ff_87_264 s0 H0 oa D⟩))) ?_
  refine fs_c1 (fs_getf (pc := 58) (n := 1048912200) (idx := 97) (ref := "BoardMachine$Trees$Node") (O := "BoardMachine$Trees$Node") (name := "depth") (desc := "I") C (by decide +kernel) (Or.inr ⟨_, kF K hw q518⟩) (fun _ h => h) (Nat.le_of_ble_eq_true rfl) (Nat.le_of_ble_eq_true rfl) (fs_one (⟨_, ff_82_250 s0 H0 oa D⟩))) ?_
  refine fs_c1 (fs_getf (pc := 65) (n := 1074086226) (idx := 15) (ref := "BoardMachine$Trees$Press") (O := "BoardMachine$Trees$Press") (name := "out") (desc := "LBoardMachine$Trees$Row;") C (by decide +kernel) (Or.inl (kw K hw q599)) (fun _ h => h) (Nat.le_of_ble_eq_true rfl) (Nat.le_of_ble_eq_true rfl) (fs_one (⟨_, ff_84_256 s0 H0 oa D⟩))) ?_
  refine fs_c1 (fs_inv_virtual (pc := 69) (n := 8476758) C (Nat.le_of_ble_eq_true rfl) (Nat.le_of_ble_eq_true rfl) (fs_lk_virtual (idx := 54) (y := ⟨"BoardMachine$Trees$Row", "addNumber", "(I)V"⟩) (bytes := prog_100_method_4_code) (maxL := 3) (rt := (Option.none : Option Jvm.ClassFile.FieldType)) (d := 2) C (Nat.le_of_ble_eq_true rfl) (Nat.le_of_ble_eq_true rfl) (by decide +kernel) (kw K hw q2220) (kw K hw q313) (kw K hw q2218) (Or.inl (kw K hw q2351)) ⟨by decide, by decide⟩ rfl (Nat.le_of_ble_eq_true rfl) (Nat.le_of_ble_eq_true rfl) (fs_one (⟨_, rfl, kw K hw q2219⟩))) fs_con_mono o0) ?_
  refine fs_c1 (fs_getf (pc := 81) (n := 1107652958) (idx := 93) (ref := "BoardMachine$Trees$Tree") (O := "BoardMachine$Trees$Tree") (name := "nodes") (desc := "[LBoardMachine$Trees$Node;") C (by decide +kernel) (Or.inr ⟨_, kF K hw q570⟩) (fun _ h => h) (Nat.le_of_ble_eq_true rfl) (Nat.le_of_ble_eq_true rfl) (fs_one (⟨_, ff_87_264 s0 H0 oa D⟩))) ?_
  refine fs_c1 (fs_inv_virtual (pc := 86) (n := 79777876) C (Nat.le_of_ble_eq_true rfl) (Nat.le_of_ble_eq_true rfl) (fs_lk_virtual (idx := 100) (y := ⟨"BoardMachine$Trees$Press", "node", "(LBoardMachine$Trees$Tree;LBoardMachine$Trees$Node;)V"⟩) (bytes := prog_98_method_3_code) (maxL := 5) (rt := (Option.none : Option Jvm.ClassFile.FieldType)) (d := 4) C (Nat.le_of_ble_eq_true rfl) (Nat.le_of_ble_eq_true rfl) (by decide +kernel) (kw K hw q2355) (kw K hw q319) (kw K hw q2354) (Or.inl (kw K hw q2352)) ⟨by decide, by decide⟩ rfl (Nat.le_of_ble_eq_true rfl) (Nat.le_of_ble_eq_true rfl) (fs_one (⟨_, rfl, kw K hw qs19⟩))) fs_con_mono o1) ?_
  refine fs_c1 (fs_getf (pc := 103) (n := 1074086226) (idx := 15) (ref := "BoardMachine$Trees$Press") (O := "BoardMachine$Trees$Press") (name := "out") (desc := "LBoardMachine$Trees$Row;") C (by decide +kernel) (Or.inl (kw K hw q599)) (fun _ h => h) (Nat.le_of_ble_eq_true rfl) (Nat.le_of_ble_eq_true rfl) (fs_one (⟨_, ff_84_256 s0 H0 oa D⟩))) ?_
  refine fs_c1 (fs_inv_virtual (pc := 107) (n := 8476758) C (Nat.le_of_ble_eq_true rfl) (Nat.le_of_ble_eq_true rfl) (fs_lk_virtual (idx := 54) (y := ⟨"BoardMachine$Trees$Row", "addNumber", "(I)V"⟩) (bytes := prog_100_method_4_code) (maxL := 3) (rt := (Option.none : Option Jvm.ClassFile.FieldType)) (d := 2) C (Nat.le_of_ble_eq_true rfl) (Nat.le_of_ble_eq_true rfl) (by decide +kernel) (kw K hw q2220) (kw K hw q313) (kw K hw q2218) (Or.inl (kw K hw q2351)) ⟨by decide, by decide⟩ rfl (Nat.le_of_ble_eq_true rfl) (Nat.le_of_ble_eq_true rfl) (fs_one (⟨_, rfl, kw K hw q2219⟩))) fs_con_mono o0) ?_
  refine fs_c1 (fs_getf (pc := 117) (n := 1074086226) (idx := 15) (ref := "BoardMachine$Trees$Press") (O := "BoardMachine$Trees$Press") (name := "out") (desc := "LBoardMachine$Trees$Row;") C (by decide +kernel) (Or.inl (kw K hw q599)) (fun _ h => h) (Nat.le_of_ble_eq_true rfl) (Nat.le_of_ble_eq_true rfl) (fs_one (⟨_, ff_84_256 s0 H0 oa D⟩))) ?_
  refine fs_c1 (fs_inv_virtual (pc := 122) (n := 8476758) C (Nat.le_of_ble_eq_true rfl) (Nat.le_of_ble_eq_true rfl) (fs_lk_virtual (idx := 54) (y := ⟨"BoardMachine$Trees$Row", "addNumber", "(I)V"⟩) (bytes := prog_100_method_4_code) (maxL := 3) (rt := (Option.none : Option Jvm.ClassFile.FieldType)) (d := 2) C (Nat.le_of_ble_eq_true rfl) (Nat.le_of_ble_eq_true rfl) (by decide +kernel) (kw K hw q2220) (kw K hw q313) (kw K hw q2218) (Or.inl (kw K hw q2351)) ⟨by decide, by decide⟩ rfl (Nat.le_of_ble_eq_true rfl) (Nat.le_of_ble_eq_true rfl) (fs_one (⟨_, rfl, kw K hw q2219⟩))) fs_con_mono o0) ?_
  refine fs_c1 (fs_getf (pc := 126) (n := 1074086226) (idx := 15) (ref := "BoardMachine$Trees$Press") (O := "BoardMachine$Trees$Press") (name := "out") (desc := "LBoardMachine$Trees$Row;") C (by decide +kernel) (Or.inl (kw K hw q599)) (fun _ h => h) (Nat.le_of_ble_eq_true rfl) (Nat.le_of_ble_eq_true rfl) (fs_one (⟨_, ff_84_256 s0 H0 oa D⟩))) ?_
  refine fs_c1 (fs_getf (pc := 129) (n := 1099260248) (idx := 24) (ref := "BoardMachine$Trees$Row") (O := "BoardMachine$Trees$Row") (name := "size") (desc := "I") C (by decide +kernel) (Or.inr ⟨_, kF K hw q460⟩) (fun _ h => h) (Nat.le_of_ble_eq_true rfl) (Nat.le_of_ble_eq_true rfl) (fs_one (⟨_, ff_86_262 s0 H0 oa D⟩))) ?_
  refine fs_c1 (fs_getf (pc := 137) (n := 1074086226) (idx := 15) (ref := "BoardMachine$Trees$Press") (O := "BoardMachine$Trees$Press") (name := "out") (desc := "LBoardMachine$Trees$Row;") C (by decide +kernel) (Or.inl (kw K hw q599)) (fun _ h => h) (Nat.le_of_ble_eq_true rfl) (Nat.le_of_ble_eq_true rfl) (fs_one (⟨_, ff_84_256 s0 H0 oa D⟩))) ?_
  refine fs_c1 (fs_getf (pc := 140) (n := 1099260248) (idx := 24) (ref := "BoardMachine$Trees$Row") (O := "BoardMachine$Trees$Row") (name := "size") (desc := "I") C (by decide +kernel) (Or.inr ⟨_, kF K hw q460⟩) (fun _ h => h) (Nat.le_of_ble_eq_true rfl) (Nat.le_of_ble_eq_true rfl) (fs_one (⟨_, ff_86_262 s0 H0 oa D⟩))) ?_
  refine fs_c1 (fs_getf (pc := 146) (n := 1074086226) (idx := 15) (ref := "BoardMachine$Trees$Press") (O := "BoardMachine$Trees$Press") (name := "out") (desc := "LBoardMachine$Trees$Row;") C (by decide +kernel) (Or.inl (kw K hw q599)) (fun _ h => h) (Nat.le_of_ble_eq_true rfl) (Nat.le_of_ble_eq_true rfl) (fs_one (⟨_, ff_84_256 s0 H0 oa D⟩))) ?_
  refine fs_c1 (fs_getf (pc := 150) (n := 1078280530) (idx := 21) (ref := "BoardMachine$Trees$Press") (O := "BoardMachine$Trees$Press") (name := "names") (desc := "LBoardMachine$Trees$Row;") C (by decide +kernel) (Or.inl (kw K hw q601)) (fun _ h => h) (Nat.le_of_ble_eq_true rfl) (Nat.le_of_ble_eq_true rfl) (fs_one (⟨_, ff_84_257 s0 H0 oa D⟩))) ?_
  refine fs_c1 (fs_getf (pc := 155) (n := 1078280530) (idx := 21) (ref := "BoardMachine$Trees$Press") (O := "BoardMachine$Trees$Press") (name := "names") (desc := "LBoardMachine$Trees$Row;") C (by decide +kernel) (Or.inl (kw K hw q601)) (fun _ h => h) (Nat.le_of_ble_eq_true rfl) (Nat.le_of_ble_eq_true rfl) (fs_one (⟨_, ff_84_257 s0 H0 oa D⟩))) ?_
  refine fs_c1 (fs_getf (pc := 158) (n := 1099260248) (idx := 24) (ref := "BoardMachine$Trees$Row") (O := "BoardMachine$Trees$Row") (name := "size") (desc := "I") C (by decide +kernel) (Or.inr ⟨_, kF K hw q460⟩) (fun _ h => h) (Nat.le_of_ble_eq_true rfl) (Nat.le_of_ble_eq_true rfl) (fs_one (⟨_, ff_86_262 s0 H0 oa D⟩))) ?_
  refine fs_c1 (fs_inv_virtual (pc := 161) (n := 151083094) C (Nat.le_of_ble_eq_true rfl) (Nat.le_of_ble_eq_true rfl) (fs_lk_virtual (idx := 47) (y := ⟨"BoardMachine$Trees$Row", "addAll", "(LBoardMachine$Trees$Row;II)V"⟩) (bytes := prog_100_method_8_code) (maxL := 4) (rt := (Option.none : Option Jvm.ClassFile.FieldType)) (d := 2) C (Nat.le_of_ble_eq_true rfl) (Nat.le_of_ble_eq_true rfl) (by decide +kernel) (kw K hw q2237) (kw K hw q313) (kw K hw q2235) (Or.inl (kw K hw q2356)) ⟨by decide, by decide⟩ rfl (Nat.le_of_ble_eq_true rfl) (Nat.le_of_ble_eq_true rfl) (fs_one (⟨_, rfl, kw K hw q2236⟩))) fs_con_mono o2) ?_
  refine fs_c1 (fs_inv_virtual (pc := 168) (n := 213995604) C (Nat.le_of_ble_eq_true rfl) (Nat.le_of_ble_eq_true rfl) (fs_lk_virtual (idx := 104) (y := ⟨"BoardMachine$Trees$Press", "head", "(II)V"⟩) (bytes := prog_98_method_4_code) (maxL := 3) (rt := (Option.none : Option Jvm.ClassFile.FieldType)) (d := 2) C (Nat.le_of_ble_eq_true rfl) (Nat.le_of_ble_eq_true rfl) (by decide +kernel) (kw K hw q2377) (kw K hw q319) (kw K hw q2376) (Or.inl (kw K hw q2374)) ⟨by decide, by decide⟩ rfl (Nat.le_of_ble_eq_true rfl) (Nat.le_of_ble_eq_true rfl) (fs_one (⟨_, rfl, kw K hw qs21⟩))) fs_con_mono o3) ?_
  refine fs_c1 (fs_getf (pc := 172) (n := 1074086226) (idx := 15) (ref := "BoardMachine$Trees$Press") (O := "BoardMachine$Trees$Press") (name := "out") (desc := "LBoardMachine$Trees$Row;") C (by decide +kernel) (Or.inl (kw K hw q599)) (fun _ h => h) (Nat.le_of_ble_eq_true rfl) (Nat.le_of_ble_eq_true rfl) (fs_one (⟨_, ff_84_256 s0 H0 oa D⟩))) ?_
  refine fs_c1 (fs_getf (pc := 175) (n := 1099260248) (idx := 24) (ref := "BoardMachine$Trees$Row") (O := "BoardMachine$Trees$Row") (name := "size") (desc := "I") C (by decide +kernel) (Or.inr ⟨_, kF K hw q460⟩) (fun _ h => h) (Nat.le_of_ble_eq_true rfl) (Nat.le_of_ble_eq_true rfl) (fs_one (⟨_, ff_86_262 s0 H0 oa D⟩))) ?_
  exact fs_c0
theorem hX4_describe (n : Nat) : fe_H (sX4_describe FX5_clear (FX4_cells n) (FX4_string n) (FX4_open n) FX5_close (FX4_number n) (FX4_processor n) (FX4_window n) (FX4_devices n) (FX9_lay n)) cX4_describe [0, 73] fe_ki [73] 80 (fun j => dX4_describe (FX4_describe_0 n (FX4_describe_L73 n j)) (FX4_describe_L73 n j)) := by
  intro j pc L st M r hc h
  rcases fe_mem_c hc with rfl | hc
  · obtain ⟨w0, m0, h⟩ := fe_lR_d h
    obtain ⟨w1, m1, h⟩ := fe_lI_d h
    obtain ⟨rfl, hz⟩ := fe_t0_d h
    exact ⟨[(0, .ref w0), (1, .int w1)], (fe_cs m0 (fe_cs m1 fe_nl)), Or.inr ((bX4_describe_0 FX5_clear (FX4_cells n) (FX4_string n) (FX4_open n) FX5_close (FX4_number n) (FX4_processor n) (FX4_window n) (FX4_devices n) (FX9_lay n) (FX4_describe_0 n (FX4_describe_L73 n j)) (FX4_describe_L73 n j) w0 w1 M).symm.trans hz)⟩
  rcases fe_mem_c hc with rfl | hc
  · obtain ⟨w0, m0, h⟩ := fe_lR_d h
    obtain ⟨w1, m1, h⟩ := fe_lI_d h
    obtain ⟨w2, m2, h⟩ := fe_lI_d h
    obtain ⟨rfl, hz⟩ := fe_t0_d h
    cases j with
    | zero => exact fe_no hz
    | succ j => exact ⟨[(0, .ref w0), (1, .int w1), (2, .int w2)], (fe_cs m0 (fe_cs m1 (fe_cs m2 fe_nl))), Or.inl ⟨j, rfl, (bX4_describe_73 FX5_clear (FX4_cells n) (FX4_string n) (FX4_open n) FX5_close (FX4_number n) (FX4_processor n) (FX4_window n) (FX4_devices n) (FX9_lay n) (FX4_describe_0 n (FX4_describe_L73 n j)) (FX4_describe_L73 n j) w0 w1 w2 M).symm.trans hz⟩⟩
  exact fe_mem_0 hc
theorem vX4_describe (n : Nat) : fe_SB (sX4_describe FX5_clear (FX4_cells n) (FX4_string n) (FX4_open n) FX5_close (FX4_number n) (FX4_processor n) (FX4_window n) (FX4_devices n) (FX9_lay n)) := by
  refine ⟨?_, ?_, ?_, ?_⟩
  · intro i As M r h
    rcases fe_bc h with h | h
    · obtain ⟨v0, t0, rfl, g0⟩ := fe_tR_d h
      obtain ⟨rfl, hz⟩ := fe_t0_d g0
      exact mX5_clear v0 M r hz
    rcases fe_bc h with h | h
    · obtain ⟨v0, t0, rfl, g0⟩ := fe_tR_d h
      obtain ⟨v1, t1, rfl, g1⟩ := fe_tI_d g0
      obtain ⟨v2, t2, rfl, g2⟩ := fe_tI_d g1
      obtain ⟨rfl, hz⟩ := fe_t0_d g2
      exact mX4_cells n v0 v1 v2 M r hz
    rcases fe_bc h with h | h
    · obtain ⟨v0, t0, rfl, g0⟩ := fe_tR_d h
      obtain ⟨v1, t1, rfl, g1⟩ := fe_tR_d g0
      obtain ⟨v2, t2, rfl, g2⟩ := fe_tR_d g1
      obtain ⟨rfl, hz⟩ := fe_t0_d g2
      exact mX4_string n v0 v1 v2 M r hz
    rcases fe_bc h with h | h
    · obtain ⟨v0, t0, rfl, g0⟩ := fe_tR_d h
      obtain ⟨v1, t1, rfl, g1⟩ := fe_tR_d g0
      obtain ⟨rfl, hz⟩ := fe_t0_d g1
      exact mX4_open n v0 v1 M r hz
    rcases fe_bc h with h | h
    · obtain ⟨v0, t0, rfl, g0⟩ := fe_tR_d h
      obtain ⟨v1, t1, rfl, g1⟩ := fe_tR_d g0
      obtain ⟨v2, t2, rfl, g2⟩ := fe_tI_d g1
      obtain ⟨rfl, hz⟩ := fe_t0_d g2
      exact mX4_number n v0 v1 v2 M r hz
    rcases fe_bc h with h | h
    · obtain ⟨v0, t0, rfl, g0⟩ := fe_tR_d h
      obtain ⟨v1, t1, rfl, g1⟩ := fe_tI_d g0
      obtain ⟨rfl, hz⟩ := fe_t0_d g1
      exact mX4_processor n v0 v1 M r hz
    rcases fe_bc h with h | h
    · obtain ⟨v0, t0, rfl, g0⟩ := fe_tR_d h
      obtain ⟨v1, t1, rfl, g1⟩ := fe_tL_d g0
      obtain ⟨v2, t2, rfl, g2⟩ := fe_tL_d g1
      obtain ⟨rfl, hz⟩ := fe_t0_d g2
      exact mX4_window n v0 v1 v2 M r hz
    rcases fe_bc h with h | h
    · obtain ⟨v0, t0, rfl, g0⟩ := fe_tR_d h
      obtain ⟨v1, t1, rfl, g1⟩ := fe_tI_d g0
      obtain ⟨rfl, hz⟩ := fe_t0_d g1
      exact mX4_devices n v0 v1 M r hz
    exact fe_no h
  · intro i As M r h
    rcases fe_bc h with h | h
    · obtain ⟨v0, t0, rfl, g0⟩ := fe_tR_d h
      obtain ⟨rfl, hz⟩ := fe_t0_d g0
      exact mX5_close v0 M r hz
    rcases fe_bc h with h | h
    · obtain ⟨v0, t0, rfl, g0⟩ := fe_tR_d h
      obtain ⟨v1, t1, rfl, g1⟩ := fe_tR_d g0
      obtain ⟨rfl, hz⟩ := fe_t0_d g1
      exact mX9_lay n v0 v1 M r hz
    exact fe_no h
  · intro i As M r h
    exact fe_no h
  · intro i As M r h
    exact fe_no h
theorem eX4_describe (g0 : Nat → Int32 → FM → Option (Int32 × FM)) (k73 : Nat → Int32 → Int32 → FM → Option (Int32 × FM)) (a0 : Nat) (a1 : Int32) (M : FM) : dX4_describe g0 k73 0 [(0, .ref a0), (1, .int a1)] [] M = g0 a0 a1 M := by rfl
theorem mX4_describe (n : Nat) (a0 : Nat) (a1 : Int32) (M : FM) (r : Int32 × FM) (h : FX4_describe n a0 a1 M = some r) : fm_nx M ≤ fm_nx r.2 ∧ fm_ns M ≤ fm_ns r.2 :=
  fe_mono (L0 := [(0, .ref a0), (1, .int a1)]) (vX4_describe n) (by decide +kernel) (hX4_describe n) (fe_ki_k r) n rfl ((eX4_describe (FX4_describe_0 n (FX4_describe_L73 n n)) (FX4_describe_L73 n n) a0 a1 M).trans h)
theorem zX4_describe {s0 : State} {H0 : Heap} {oa : Nat → Nat} {D : va_G} (K : fk s0 H0 oa D) (l : Launch) (n : Nat) (a0 : Nat) (a1 : Int32) (M : FM) (r : Int32 × FM) (h : FX4_describe n a0 a1 M = some r) : fs_Con (fk_E s0 H0 oa D) l 10 ⟨"BoardMachine$Describer", "describe", "(I)I"⟩ prog_14_method_17_code 3 (Option.some Jvm.ClassFile.FieldType.int) [.ref a0, .int a1] M (some (.int r.1)) r.2 := by
  have o0 : fs_OS (sX4_describe FX5_clear (FX4_cells n) (FX4_string n) (FX4_open n) FX5_close (FX4_number n) (FX4_processor n) (FX4_window n) (FX4_devices n) (FX9_lay n)) 0 0 (fs_Con (fk_E s0 H0 oa D) l 2 ⟨"BoardMachine$Trees$Tree", "clear", "()V"⟩ prog_101_method_2_code 1 (Option.none : Option Jvm.ClassFile.FieldType)) := by
    intro As M r h
    obtain ⟨v0, t0, rfl, g0⟩ := fe_tR_d h
    obtain ⟨rfl, hz⟩ := fe_t0_d g0
    exact zX5_clear K l v0 M r hz
  have o1 : fs_OS (sX4_describe FX5_clear (FX4_cells n) (FX4_string n) (FX4_open n) FX5_close (FX4_number n) (FX4_processor n) (FX4_window n) (FX4_devices n) (FX9_lay n)) 1 0 (fs_Con (fk_E s0 H0 oa D) l 8 ⟨"BoardMachine$Describer", "cells", "(II)V"⟩ prog_14_method_12_code 3 (Option.none : Option Jvm.ClassFile.FieldType)) := by
    intro As M r h
    obtain ⟨v0, t0, rfl, g0⟩ := fe_tR_d h
    obtain ⟨v1, t1, rfl, g1⟩ := fe_tI_d g0
    obtain ⟨v2, t2, rfl, g2⟩ := fe_tI_d g1
    obtain ⟨rfl, hz⟩ := fe_t0_d g2
    exact zX4_cells K l n v0 v1 v2 M r hz
  have o2 : fs_OS (sX4_describe FX5_clear (FX4_cells n) (FX4_string n) (FX4_open n) FX5_close (FX4_number n) (FX4_processor n) (FX4_window n) (FX4_devices n) (FX9_lay n)) 2 0 (fs_Con (fk_E s0 H0 oa D) l 7 ⟨"BoardMachine$Describer", "string", "(Ljava/lang/String;Ljava/lang/String;)V"⟩ prog_14_method_7_code 3 (Option.none : Option Jvm.ClassFile.FieldType)) := by
    intro As M r h
    obtain ⟨v0, t0, rfl, g0⟩ := fe_tR_d h
    obtain ⟨v1, t1, rfl, g1⟩ := fe_tR_d g0
    obtain ⟨v2, t2, rfl, g2⟩ := fe_tR_d g1
    obtain ⟨rfl, hz⟩ := fe_t0_d g2
    exact zX4_string K l n v0 v1 v2 M r hz
  have o3 : fs_OS (sX4_describe FX5_clear (FX4_cells n) (FX4_string n) (FX4_open n) FX5_close (FX4_number n) (FX4_processor n) (FX4_window n) (FX4_devices n) (FX9_lay n)) 3 0 (fs_Con (fk_E s0 H0 oa D) l 6 ⟨"BoardMachine$Describer", "open", "(Ljava/lang/String;)V"⟩ prog_14_method_3_code 2 (Option.none : Option Jvm.ClassFile.FieldType)) := by
    intro As M r h
    obtain ⟨v0, t0, rfl, g0⟩ := fe_tR_d h
    obtain ⟨v1, t1, rfl, g1⟩ := fe_tR_d g0
    obtain ⟨rfl, hz⟩ := fe_t0_d g1
    exact zX4_open K l n v0 v1 M r hz
  have o4 : fs_OS (sX4_describe FX5_clear (FX4_cells n) (FX4_string n) (FX4_open n) FX5_close (FX4_number n) (FX4_processor n) (FX4_window n) (FX4_devices n) (FX9_lay n)) 4 1 (fs_Con (fk_E s0 H0 oa D) l 1 ⟨"BoardMachine$Trees$Tree", "close", "()I"⟩ prog_101_method_9_code 1 (Option.some Jvm.ClassFile.FieldType.int)) := by
    intro As M r h
    obtain ⟨v0, t0, rfl, g0⟩ := fe_tR_d h
    obtain ⟨rfl, hz⟩ := fe_t0_d g0
    exact zX5_close K l v0 M r hz
  have o5 : fs_OS (sX4_describe FX5_clear (FX4_cells n) (FX4_string n) (FX4_open n) FX5_close (FX4_number n) (FX4_processor n) (FX4_window n) (FX4_devices n) (FX9_lay n)) 5 0 (fs_Con (fk_E s0 H0 oa D) l 7 ⟨"BoardMachine$Describer", "number", "(Ljava/lang/String;I)V"⟩ prog_14_method_8_code 3 (Option.none : Option Jvm.ClassFile.FieldType)) := by
    intro As M r h
    obtain ⟨v0, t0, rfl, g0⟩ := fe_tR_d h
    obtain ⟨v1, t1, rfl, g1⟩ := fe_tR_d g0
    obtain ⟨v2, t2, rfl, g2⟩ := fe_tI_d g1
    obtain ⟨rfl, hz⟩ := fe_t0_d g2
    exact zX4_number K l n v0 v1 v2 M r hz
  have o6 : fs_OS (sX4_describe FX5_clear (FX4_cells n) (FX4_string n) (FX4_open n) FX5_close (FX4_number n) (FX4_processor n) (FX4_window n) (FX4_devices n) (FX9_lay n)) 6 0 (fs_Con (fk_E s0 H0 oa D) l 8 ⟨"BoardMachine$Describer", "processor", "(I)V"⟩ prog_14_method_13_code 2 (Option.none : Option Jvm.ClassFile.FieldType)) := by
    intro As M r h
    obtain ⟨v0, t0, rfl, g0⟩ := fe_tR_d h
    obtain ⟨v1, t1, rfl, g1⟩ := fe_tI_d g0
    obtain ⟨rfl, hz⟩ := fe_t0_d g1
    exact zX4_processor K l n v0 v1 M r hz
  have o7 : fs_OS (sX4_describe FX5_clear (FX4_cells n) (FX4_string n) (FX4_open n) FX5_close (FX4_number n) (FX4_processor n) (FX4_window n) (FX4_devices n) (FX9_lay n)) 7 0 (fs_Con (fk_E s0 H0 oa D) l 7 ⟨"BoardMachine$Describer", "window", "(JJ)V"⟩ prog_14_method_11_code 5 (Option.none : Option Jvm.ClassFile.FieldType)) := by
    intro As M r h
    obtain ⟨v0, t0, rfl, g0⟩ := fe_tR_d h
    obtain ⟨v1, t1, rfl, g1⟩ := fe_tL_d g0
    obtain ⟨v2, t2, rfl, g2⟩ := fe_tL_d g1
    obtain ⟨rfl, hz⟩ := fe_t0_d g2
    exact zX4_window K l n v0 v1 v2 M r hz
  have o8 : fs_OS (sX4_describe FX5_clear (FX4_cells n) (FX4_string n) (FX4_open n) FX5_close (FX4_number n) (FX4_processor n) (FX4_window n) (FX4_devices n) (FX9_lay n)) 8 0 (fs_Con (fk_E s0 H0 oa D) l 9 ⟨"BoardMachine$Describer", "devices", "(I)V"⟩ prog_14_method_16_code 2 (Option.none : Option Jvm.ClassFile.FieldType)) := by
    intro As M r h
    obtain ⟨v0, t0, rfl, g0⟩ := fe_tR_d h
    obtain ⟨v1, t1, rfl, g1⟩ := fe_tI_d g0
    obtain ⟨rfl, hz⟩ := fe_t0_d g1
    exact zX4_devices K l n v0 v1 M r hz
  have o9 : fs_OS (sX4_describe FX5_clear (FX4_cells n) (FX4_string n) (FX4_open n) FX5_close (FX4_number n) (FX4_processor n) (FX4_window n) (FX4_devices n) (FX9_lay n)) 9 1 (fs_Con (fk_E s0 H0 oa D) l 5 ⟨"BoardMachine$Trees$Press", "lay", "(LBoardMachine$Trees$Tree;)I"⟩ prog_98_method_5_code 5 (Option.some Jvm.ClassFile.FieldType.int)) := by
    intro As M r h
    obtain ⟨v0, t0, rfl, g0⟩ := fe_tR_d h
    obtain ⟨v1, t1, rfl, g1⟩ := fe_tR_d g0
    obtain ⟨rfl, hz⟩ := fe_t0_d g1
    exact zX9_lay K l n v0 v1 M r hz
  refine fs_method (own := "BoardMachine$Describer") rfl (by decide) K.2.1 (by rw [fe_slen]; exact (Nat.le_of_ble_eq_true rfl)) (mX4_describe n a0 a1 M r h) (hX4_describe n) n rfl (L0 := [(0, .ref a0), (1, .int a1)]) (fun E => fe_args_e E [.ref a0, .int a1] 0) ((eX4_describe (FX4_describe_0 n (FX4_describe_L73 n n)) (FX4_describe_L73 n n) a0 a1 M).trans h) (fe_ki_k r) (fun H hR => fs_nr_o (by decide) (by decide)) ?_
  intro p e s m args below meth c Q C hnm
  have hw : s0.WarmedH s.vm := C.2.2.2.2.1
  refine fe_all C fk_hwr cX4_describe [1, 4, 10, 14, 16, 18, 22, 24, 26, 30, 32, 36, 38, 40, 44, 47, 52, 54, 60, 64, 66, 68, 80, 90, 93, 98, 100, 104, 106, 108, 112, 115, 118, 122, 125, 131, 135, 139, 142] (by decide +kernel) (fe_fil (cps := [(1, 4, .getfield 234967126), (4, 7, .invokevirtual 4283479), (10, 13, .invokevirtual 79713301), (14, 16, .ldc 109), (16, 18, .ldc 144), (18, 21, .invokevirtual 146822165), (22, 24, .ldc 128), (24, 26, .ldc 107), (26, 29, .invokevirtual 146822165), (30, 32, .ldc 108), (32, 35, .invokevirtual 209736725), (36, 38, .ldc 138), (38, 40, .ldc 104), (40, 43, .invokevirtual 146822165), (44, 47, .getfield 234967126), (47, 50, .invokevirtual 273767511), (52, 54, .ldc 116), (54, 57, .invokevirtual 209736725), (60, 63, .invokevirtual 79713301), (64, 66, .ldc 140), (66, 68, .iconst (10000000)), (68, 71, .invokevirtual 348148757), (80, 83, .invokevirtual 411063317), (90, 93, .getfield 234967126), (93, 96, .invokevirtual 273767511), (98, 100, .ldc 126), (100, 103, .invokevirtual 209736725), (104, 106, .ldc 117), (106, 108, .ldc 125), (108, 111, .invokevirtual 146822165), (112, 115, .jsr_w (2147483648)), (115, 118, .jsr_w (4194304)), (118, 121, .invokevirtual 482366485), (122, 125, .getfield 234967126), (125, 128, .invokevirtual 273767511), (131, 134, .invokevirtual 545281045), (135, 138, .getfield 239161430), (139, 142, .getfield 234967126), (142, 145, .invokevirtual 613503060)]) (by decide +kernel) ?_)
  refine fs_c1 (fs_getf (pc := 1) (n := 234967126) (idx := 23) (ref := "BoardMachine$Describer") (O := "BoardMachine$Describer") (name := "tree") (desc := "LBoardMachine$Trees$Tree;") C (by decide +kernel) (Or.inl (kw K hw q608)) (fun _ h => h) (Nat.le_of_ble_eq_true rfl) (Nat.le_of_ble_eq_true rfl) (fs_one (⟨_, ff_21_56 s0 H0 oa D⟩))) ?_
  refine fs_c1 (fs_inv_virtual (pc := 4) (n := 4283479) C (Nat.le_of_ble_eq_true rfl) (Nat.le_of_ble_eq_true rfl) (fs_lk_virtual (idx := 220) (y := ⟨"BoardMachine$Trees$Tree", "clear", "()V"⟩) (bytes := prog_101_method_2_code) (maxL := 1) (rt := (Option.none : Option Jvm.ClassFile.FieldType)) (d := 2) C (Nat.le_of_ble_eq_true rfl) (Nat.le_of_ble_eq_true rfl) (by decide +kernel) (kw K hw q561) (kw K hw q315) (kw K hw q559) (Or.inl (kw K hw q2147)) ⟨by decide, by decide⟩ rfl (Nat.le_of_ble_eq_true rfl) (Nat.le_of_ble_eq_true rfl) (fs_one (⟨_, rfl, kw K hw q560⟩))) fs_con_mono o0) ?_
  refine fs_c1 (fs_inv_virtual (pc := 10) (n := 79713301) C (Nat.le_of_ble_eq_true rfl) (Nat.le_of_ble_eq_true rfl) (fs_lk_virtual (idx := 166) (y := ⟨"BoardMachine$Describer", "cells", "(II)V"⟩) (bytes := prog_14_method_12_code) (maxL := 3) (rt := (Option.none : Option Jvm.ClassFile.FieldType)) (d := 8) C (Nat.le_of_ble_eq_true rfl) (Nat.le_of_ble_eq_true rfl) (by decide +kernel) (kw K hw q2151) (kw K hw q314) (kw K hw q2150) (Or.inl (kw K hw q2148)) ⟨by decide, by decide⟩ rfl (Nat.le_of_ble_eq_true rfl) (Nat.le_of_ble_eq_true rfl) (fs_one (⟨_, rfl, kw K hw qs4⟩))) fs_con_mono o1) ?_
  refine fs_c1 (fs_ldcs (pc := 14) (idx := 118) (n := 109) (tx := "compatible") C (by decide +kernel) (by decide) (kS K es_21_118)) ?_
  refine fs_c1 (fs_ldcs (pc := 16) (idx := 223) (n := 144) (tx := "whole,board") C (by decide +kernel) (by decide) (kS K es_21_223)) ?_
  refine fs_c1 (fs_inv_virtual (pc := 18) (n := 146822165) C (Nat.le_of_ble_eq_true rfl) (Nat.le_of_ble_eq_true rfl) (fs_lk_virtual (idx := 110) (y := ⟨"BoardMachine$Describer", "string", "(Ljava/lang/String;Ljava/lang/String;)V"⟩) (bytes := prog_14_method_7_code) (maxL := 3) (rt := (Option.none : Option Jvm.ClassFile.FieldType)) (d := 7) C (Nat.le_of_ble_eq_true rfl) (Nat.le_of_ble_eq_true rfl) (by decide +kernel) (kw K hw q2248) (kw K hw q314) (kw K hw q2247) (Or.inl (kw K hw q2245)) ⟨by decide, by decide⟩ rfl (Nat.le_of_ble_eq_true rfl) (Nat.le_of_ble_eq_true rfl) (fs_one (⟨_, rfl, kw K hw qs9⟩))) fs_con_mono o2) ?_
  refine fs_c1 (fs_ldcs (pc := 22) (idx := 225) (n := 128) (tx := "model") C (by decide +kernel) (by decide) (kS K es_21_225)) ?_
  refine fs_c1 (fs_ldcs (pc := 24) (idx := 227) (n := 107) (tx := "board") C (by decide +kernel) (by decide) (kS K es_21_227)) ?_
  refine fs_c1 (fs_inv_virtual (pc := 26) (n := 146822165) C (Nat.le_of_ble_eq_true rfl) (Nat.le_of_ble_eq_true rfl) (fs_lk_virtual (idx := 110) (y := ⟨"BoardMachine$Describer", "string", "(Ljava/lang/String;Ljava/lang/String;)V"⟩) (bytes := prog_14_method_7_code) (maxL := 3) (rt := (Option.none : Option Jvm.ClassFile.FieldType)) (d := 7) C (Nat.le_of_ble_eq_true rfl) (Nat.le_of_ble_eq_true rfl) (by decide +kernel) (kw K hw q2248) (kw K hw q314) (kw K hw q2247) (Or.inl (kw K hw q2245)) ⟨by decide, by decide⟩ rfl (Nat.le_of_ble_eq_true rfl) (Nat.le_of_ble_eq_true rfl) (fs_one (⟨_, rfl, kw K hw qs9⟩))) fs_con_mono o2) ?_
  refine fs_c1 (fs_ldcs (pc := 30) (idx := 229) (n := 108) (tx := "chosen") C (by decide +kernel) (by decide) (kS K es_21_229)) ?_
  refine fs_c1 (fs_inv_virtual (pc := 32) (n := 209736725) C (Nat.le_of_ble_eq_true rfl) (Nat.le_of_ble_eq_true rfl) (fs_lk_virtual (idx := 132) (y := ⟨"BoardMachine$Describer", "open", "(Ljava/lang/String;)V"⟩) (bytes := prog_14_method_3_code) (maxL := 2) (rt := (Option.none : Option Jvm.ClassFile.FieldType)) (d := 6) C (Nat.le_of_ble_eq_true rfl) (Nat.le_of_ble_eq_true rfl) (by decide +kernel) (kw K hw q2255) (kw K hw q314) (kw K hw q2254) (Or.inl (kw K hw q2252)) ⟨by decide, by decide⟩ rfl (Nat.le_of_ble_eq_true rfl) (Nat.le_of_ble_eq_true rfl) (fs_one (⟨_, rfl, kw K hw qs10⟩))) fs_con_mono o3) ?_
  refine fs_c1 (fs_ldcs (pc := 36) (idx := 231) (n := 138) (tx := "stdout-path") C (by decide +kernel) (by decide) (kS K es_21_231)) ?_
  refine fs_c1 (fs_ldcs (pc := 38) (idx := 233) (n := 104) (tx := "/soc/serial@10000000") C (by decide +kernel) (by decide) (kS K es_21_233)) ?_
  refine fs_c1 (fs_inv_virtual (pc := 40) (n := 146822165) C (Nat.le_of_ble_eq_true rfl) (Nat.le_of_ble_eq_true rfl) (fs_lk_virtual (idx := 110) (y := ⟨"BoardMachine$Describer", "string", "(Ljava/lang/String;Ljava/lang/String;)V"⟩) (bytes := prog_14_method_7_code) (maxL := 3) (rt := (Option.none : Option Jvm.ClassFile.FieldType)) (d := 7) C (Nat.le_of_ble_eq_true rfl) (Nat.le_of_ble_eq_true rfl) (by decide +kernel) (kw K hw q2248) (kw K hw q314) (kw K hw q2247) (Or.inl (kw K hw q2245)) ⟨by decide, by decide⟩ rfl (Nat.le_of_ble_eq_true rfl) (Nat.le_of_ble_eq_true rfl) (fs_one (⟨_, rfl, kw K hw qs9⟩))) fs_con_mono o2) ?_
  refine fs_c1 (fs_getf (pc := 44) (n := 234967126) (idx := 23) (ref := "BoardMachine$Describer") (O := "BoardMachine$Describer") (name := "tree") (desc := "LBoardMachine$Trees$Tree;") C (by decide +kernel) (Or.inl (kw K hw q608)) (fun _ h => h) (Nat.le_of_ble_eq_true rfl) (Nat.le_of_ble_eq_true rfl) (fs_one (⟨_, ff_21_56 s0 H0 oa D⟩))) ?_
  refine fs_c1 (fs_inv_virtual (pc := 47) (n := 273767511) C (Nat.le_of_ble_eq_true rfl) (Nat.le_of_ble_eq_true rfl) (fs_lk_virtual (idx := 143) (y := ⟨"BoardMachine$Trees$Tree", "close", "()I"⟩) (bytes := prog_101_method_9_code) (maxL := 1) (rt := (Option.some Jvm.ClassFile.FieldType.int)) (d := 1) C (Nat.le_of_ble_eq_true rfl) (Nat.le_of_ble_eq_true rfl) (by decide +kernel) (kw K hw q2265) (kw K hw q315) (kw K hw q2263) (Or.inl (kw K hw q2262)) ⟨by decide, by decide⟩ rfl (Nat.le_of_ble_eq_true rfl) (Nat.le_of_ble_eq_true rfl) (fs_one (⟨_, rfl, kw K hw q2264⟩))) fs_con_mono o4) ?_
  refine fs_c1 (fs_ldcs (pc := 52) (idx := 235) (n := 116) (tx := "cpus") C (by decide +kernel) (by decide) (kS K es_21_235)) ?_
  refine fs_c1 (fs_inv_virtual (pc := 54) (n := 209736725) C (Nat.le_of_ble_eq_true rfl) (Nat.le_of_ble_eq_true rfl) (fs_lk_virtual (idx := 132) (y := ⟨"BoardMachine$Describer", "open", "(Ljava/lang/String;)V"⟩) (bytes := prog_14_method_3_code) (maxL := 2) (rt := (Option.none : Option Jvm.ClassFile.FieldType)) (d := 6) C (Nat.le_of_ble_eq_true rfl) (Nat.le_of_ble_eq_true rfl) (by decide +kernel) (kw K hw q2255) (kw K hw q314) (kw K hw q2254) (Or.inl (kw K hw q2252)) ⟨by decide, by decide⟩ rfl (Nat.le_of_ble_eq_true rfl) (Nat.le_of_ble_eq_true rfl) (fs_one (⟨_, rfl, kw K hw qs10⟩))) fs_con_mono o3) ?_
  refine fs_c1 (fs_inv_virtual (pc := 60) (n := 79713301) C (Nat.le_of_ble_eq_true rfl) (Nat.le_of_ble_eq_true rfl) (fs_lk_virtual (idx := 166) (y := ⟨"BoardMachine$Describer", "cells", "(II)V"⟩) (bytes := prog_14_method_12_code) (maxL := 3) (rt := (Option.none : Option Jvm.ClassFile.FieldType)) (d := 8) C (Nat.le_of_ble_eq_true rfl) (Nat.le_of_ble_eq_true rfl) (by decide +kernel) (kw K hw q2151) (kw K hw q314) (kw K hw q2150) (Or.inl (kw K hw q2148)) ⟨by decide, by decide⟩ rfl (Nat.le_of_ble_eq_true rfl) (Nat.le_of_ble_eq_true rfl) (fs_one (⟨_, rfl, kw K hw qs4⟩))) fs_con_mono o1) ?_
  refine fs_c1 (fs_ldcs (pc := 64) (idx := 237) (n := 140) (tx := "timebase-frequency") C (by decide +kernel) (by decide) (kS K es_21_237)) ?_
  refine fs_c1 (fs_ldci (pc := 66) (idx := 239) (v := 10000000) C (by decide +kernel) (kw K hw q2268)) ?_
  refine fs_c1 (fs_inv_virtual (pc := 68) (n := 348148757) C (Nat.le_of_ble_eq_true rfl) (Nat.le_of_ble_eq_true rfl) (fs_lk_virtual (idx := 95) (y := ⟨"BoardMachine$Describer", "number", "(Ljava/lang/String;I)V"⟩) (bytes := prog_14_method_8_code) (maxL := 3) (rt := (Option.none : Option Jvm.ClassFile.FieldType)) (d := 7) C (Nat.le_of_ble_eq_true rfl) (Nat.le_of_ble_eq_true rfl) (by decide +kernel) (kw K hw q2156) (kw K hw q314) (kw K hw q2155) (Or.inl (kw K hw q2153)) ⟨by decide, by decide⟩ rfl (Nat.le_of_ble_eq_true rfl) (Nat.le_of_ble_eq_true rfl) (fs_one (⟨_, rfl, kw K hw qs5⟩))) fs_con_mono o5) ?_
  refine fs_c1 (fs_inv_virtual (pc := 80) (n := 411063317) C (Nat.le_of_ble_eq_true rfl) (Nat.le_of_ble_eq_true rfl) (fs_lk_virtual (idx := 240) (y := ⟨"BoardMachine$Describer", "processor", "(I)V"⟩) (bytes := prog_14_method_13_code) (maxL := 2) (rt := (Option.none : Option Jvm.ClassFile.FieldType)) (d := 8) C (Nat.le_of_ble_eq_true rfl) (Nat.le_of_ble_eq_true rfl) (by decide +kernel) (kw K hw q2272) (kw K hw q314) (kw K hw q2271) (Or.inl (kw K hw q2269)) ⟨by decide, by decide⟩ rfl (Nat.le_of_ble_eq_true rfl) (Nat.le_of_ble_eq_true rfl) (fs_one (⟨_, rfl, kw K hw qs11⟩))) fs_con_mono o6) ?_
  refine fs_c1 (fs_getf (pc := 90) (n := 234967126) (idx := 23) (ref := "BoardMachine$Describer") (O := "BoardMachine$Describer") (name := "tree") (desc := "LBoardMachine$Trees$Tree;") C (by decide +kernel) (Or.inl (kw K hw q608)) (fun _ h => h) (Nat.le_of_ble_eq_true rfl) (Nat.le_of_ble_eq_true rfl) (fs_one (⟨_, ff_21_56 s0 H0 oa D⟩))) ?_
  refine fs_c1 (fs_inv_virtual (pc := 93) (n := 273767511) C (Nat.le_of_ble_eq_true rfl) (Nat.le_of_ble_eq_true rfl) (fs_lk_virtual (idx := 143) (y := ⟨"BoardMachine$Trees$Tree", "close", "()I"⟩) (bytes := prog_101_method_9_code) (maxL := 1) (rt := (Option.some Jvm.ClassFile.FieldType.int)) (d := 1) C (Nat.le_of_ble_eq_true rfl) (Nat.le_of_ble_eq_true rfl) (by decide +kernel) (kw K hw q2265) (kw K hw q315) (kw K hw q2263) (Or.inl (kw K hw q2262)) ⟨by decide, by decide⟩ rfl (Nat.le_of_ble_eq_true rfl) (Nat.le_of_ble_eq_true rfl) (fs_one (⟨_, rfl, kw K hw q2264⟩))) fs_con_mono o4) ?_
  refine fs_c1 (fs_ldcs (pc := 98) (idx := 243) (n := 126) (tx := "memory@80000000") C (by decide +kernel) (by decide) (kS K es_21_243)) ?_
  refine fs_c1 (fs_inv_virtual (pc := 100) (n := 209736725) C (Nat.le_of_ble_eq_true rfl) (Nat.le_of_ble_eq_true rfl) (fs_lk_virtual (idx := 132) (y := ⟨"BoardMachine$Describer", "open", "(Ljava/lang/String;)V"⟩) (bytes := prog_14_method_3_code) (maxL := 2) (rt := (Option.none : Option Jvm.ClassFile.FieldType)) (d := 6) C (Nat.le_of_ble_eq_true rfl) (Nat.le_of_ble_eq_true rfl) (by decide +kernel) (kw K hw q2255) (kw K hw q314) (kw K hw q2254) (Or.inl (kw K hw q2252)) ⟨by decide, by decide⟩ rfl (Nat.le_of_ble_eq_true rfl) (Nat.le_of_ble_eq_true rfl) (fs_one (⟨_, rfl, kw K hw qs10⟩))) fs_con_mono o3) ?_
  refine fs_c1 (fs_ldcs (pc := 104) (idx := 106) (n := 117) (tx := "device_type") C (by decide +kernel) (by decide) (kS K es_21_106)) ?_
  refine fs_c1 (fs_ldcs (pc := 106) (idx := 245) (n := 125) (tx := "memory") C (by decide +kernel) (by decide) (kS K es_21_245)) ?_
  refine fs_c1 (fs_inv_virtual (pc := 108) (n := 146822165) C (Nat.le_of_ble_eq_true rfl) (Nat.le_of_ble_eq_true rfl) (fs_lk_virtual (idx := 110) (y := ⟨"BoardMachine$Describer", "string", "(Ljava/lang/String;Ljava/lang/String;)V"⟩) (bytes := prog_14_method_7_code) (maxL := 3) (rt := (Option.none : Option Jvm.ClassFile.FieldType)) (d := 7) C (Nat.le_of_ble_eq_true rfl) (Nat.le_of_ble_eq_true rfl) (by decide +kernel) (kw K hw q2248) (kw K hw q314) (kw K hw q2247) (Or.inl (kw K hw q2245)) ⟨by decide, by decide⟩ rfl (Nat.le_of_ble_eq_true rfl) (Nat.le_of_ble_eq_true rfl) (fs_one (⟨_, rfl, kw K hw qs9⟩))) fs_con_mono o2) ?_
  refine fs_c1 (fs_ldcl (pc := 112) (idx := 247) (v := 2147483648) C (by decide +kernel) (kw K hw q2298)) ?_
  refine fs_c1 (fs_ldcl (pc := 115) (idx := 249) (v := 4194304) C (by decide +kernel) (kw K hw q2299)) ?_
  refine fs_c1 (fs_inv_virtual (pc := 118) (n := 482366485) C (Nat.le_of_ble_eq_true rfl) (Nat.le_of_ble_eq_true rfl) (fs_lk_virtual (idx := 156) (y := ⟨"BoardMachine$Describer", "window", "(JJ)V"⟩) (bytes := prog_14_method_11_code) (maxL := 5) (rt := (Option.none : Option Jvm.ClassFile.FieldType)) (d := 7) C (Nat.le_of_ble_eq_true rfl) (Nat.le_of_ble_eq_true rfl) (by decide +kernel) (kw K hw q2303) (kw K hw q314) (kw K hw q2302) (Or.inl (kw K hw q2300)) ⟨by decide, by decide⟩ rfl (Nat.le_of_ble_eq_true rfl) (Nat.le_of_ble_eq_true rfl) (fs_one (⟨_, rfl, kw K hw qs14⟩))) fs_con_mono o7) ?_
  refine fs_c1 (fs_getf (pc := 122) (n := 234967126) (idx := 23) (ref := "BoardMachine$Describer") (O := "BoardMachine$Describer") (name := "tree") (desc := "LBoardMachine$Trees$Tree;") C (by decide +kernel) (Or.inl (kw K hw q608)) (fun _ h => h) (Nat.le_of_ble_eq_true rfl) (Nat.le_of_ble_eq_true rfl) (fs_one (⟨_, ff_21_56 s0 H0 oa D⟩))) ?_
  refine fs_c1 (fs_inv_virtual (pc := 125) (n := 273767511) C (Nat.le_of_ble_eq_true rfl) (Nat.le_of_ble_eq_true rfl) (fs_lk_virtual (idx := 143) (y := ⟨"BoardMachine$Trees$Tree", "close", "()I"⟩) (bytes := prog_101_method_9_code) (maxL := 1) (rt := (Option.some Jvm.ClassFile.FieldType.int)) (d := 1) C (Nat.le_of_ble_eq_true rfl) (Nat.le_of_ble_eq_true rfl) (by decide +kernel) (kw K hw q2265) (kw K hw q315) (kw K hw q2263) (Or.inl (kw K hw q2262)) ⟨by decide, by decide⟩ rfl (Nat.le_of_ble_eq_true rfl) (Nat.le_of_ble_eq_true rfl) (fs_one (⟨_, rfl, kw K hw q2264⟩))) fs_con_mono o4) ?_
  refine fs_c1 (fs_inv_virtual (pc := 131) (n := 545281045) C (Nat.le_of_ble_eq_true rfl) (Nat.le_of_ble_eq_true rfl) (fs_lk_virtual (idx := 251) (y := ⟨"BoardMachine$Describer", "devices", "(I)V"⟩) (bytes := prog_14_method_16_code) (maxL := 2) (rt := (Option.none : Option Jvm.ClassFile.FieldType)) (d := 9) C (Nat.le_of_ble_eq_true rfl) (Nat.le_of_ble_eq_true rfl) (by decide +kernel) (kw K hw q2311) (kw K hw q314) (kw K hw q2310) (Or.inl (kw K hw q2308)) ⟨by decide, by decide⟩ rfl (Nat.le_of_ble_eq_true rfl) (Nat.le_of_ble_eq_true rfl) (fs_one (⟨_, rfl, kw K hw qs16⟩))) fs_con_mono o8) ?_
  refine fs_c1 (fs_getf (pc := 135) (n := 239161430) (idx := 30) (ref := "BoardMachine$Describer") (O := "BoardMachine$Describer") (name := "press") (desc := "LBoardMachine$Trees$Press;") C (by decide +kernel) (Or.inl (kw K hw q609)) (fun _ h => h) (Nat.le_of_ble_eq_true rfl) (Nat.le_of_ble_eq_true rfl) (fs_one (⟨_, ff_21_57 s0 H0 oa D⟩))) ?_
  refine fs_c1 (fs_getf (pc := 139) (n := 234967126) (idx := 23) (ref := "BoardMachine$Describer") (O := "BoardMachine$Describer") (name := "tree") (desc := "LBoardMachine$Trees$Tree;") C (by decide +kernel) (Or.inl (kw K hw q608)) (fun _ h => h) (Nat.le_of_ble_eq_true rfl) (Nat.le_of_ble_eq_true rfl) (fs_one (⟨_, ff_21_56 s0 H0 oa D⟩))) ?_
  refine fs_c1 (fs_inv_virtual (pc := 142) (n := 613503060) C (Nat.le_of_ble_eq_true rfl) (Nat.le_of_ble_eq_true rfl) (fs_lk_virtual (idx := 254) (y := ⟨"BoardMachine$Trees$Press", "lay", "(LBoardMachine$Trees$Tree;)I"⟩) (bytes := prog_98_method_5_code) (maxL := 5) (rt := (Option.some Jvm.ClassFile.FieldType.int)) (d := 5) C (Nat.le_of_ble_eq_true rfl) (Nat.le_of_ble_eq_true rfl) (by decide +kernel) (kw K hw q2350) (kw K hw q319) (kw K hw q2348) (Or.inl (kw K hw q2347)) ⟨by decide, by decide⟩ rfl (Nat.le_of_ble_eq_true rfl) (Nat.le_of_ble_eq_true rfl) (fs_one (⟨_, rfl, kw K hw q2349⟩))) fs_con_mono o9) ?_
  exact fs_c0
theorem hX11_pageOf : fe_H (sX11_pageOf) cX11_pageOf [0] fe_ki [] 20 (fun _ => dX11_pageOf FX11_pageOf_0) := by
  intro j pc L st M r hc h
  rcases fe_mem_c hc with rfl | hc
  · obtain ⟨w0, m0, h⟩ := fe_lL_d h
    obtain ⟨rfl, hz⟩ := fe_t0_d h
    exact ⟨[(0, .long w0)], (fe_cs m0 fe_nl), Or.inr ((bX11_pageOf_0 FX11_pageOf_0 w0 M).symm.trans hz)⟩
  exact fe_mem_0 hc
theorem vX11_pageOf : fe_SB (sX11_pageOf) := by
  refine ⟨?_, ?_, ?_, ?_⟩
  · intro i As M r h
    exact fe_no h
  · intro i As M r h
    exact fe_no h
  · intro i As M r h
    exact fe_no h
  · intro i As M r h
    exact fe_no h
theorem eX11_pageOf (g0 : Int64 → FM → Option (Int32 × FM)) (a0 : Int64) (M : FM) : dX11_pageOf g0 0 [(0, .long a0)] [] M = g0 a0 M := by rfl
theorem mX11_pageOf (a0 : Int64) (M : FM) (r : Int32 × FM) (h : FX11_pageOf a0 M = some r) : fm_nx M ≤ fm_nx r.2 ∧ fm_ns M ≤ fm_ns r.2 :=
  fe_mono (L0 := [(0, .long a0)]) (vX11_pageOf) (by decide +kernel) (hX11_pageOf) (fe_ki_k r) 0 rfl ((eX11_pageOf FX11_pageOf_0 a0 M).trans h)
theorem zX11_pageOf {s0 : State} {H0 : Heap} {oa : Nat → Nat} {D : va_G} (K : fk s0 H0 oa D) (l : Launch) (a0 : Int64) (M : FM) (r : Int32 × FM) (h : FX11_pageOf a0 M = some r) : fs_Con (fk_E s0 H0 oa D) l 1 ⟨"BoardMachine$Memories$Ram", "pageOf", "(J)I"⟩ prog_82_method_3_code 2 (Option.some Jvm.ClassFile.FieldType.int) [.long a0] M (some (.int r.1)) r.2 := by
  refine fs_method (own := "BoardMachine$Memories$Ram") rfl (by decide) K.2.1 (by rw [fe_slen]; exact (Nat.le_of_ble_eq_true rfl)) (mX11_pageOf a0 M r h) (hX11_pageOf) 0 rfl (L0 := [(0, .long a0)]) (fun E => fe_args_e E [.long a0] 0) ((eX11_pageOf FX11_pageOf_0 a0 M).trans h) (fe_ki_k r) (fun H hR => fs_nr_o (by decide) (by decide)) ?_
  intro p e s m args below meth c Q C hnm
  have hw : s0.WarmedH s.vm := C.2.2.2.2.1
  refine fe_all C fk_hwr cX11_pageOf [1] (by decide +kernel) (fe_fil (cps := [(1, 4, .jsr_w (2147483648))]) (by decide +kernel) ?_)
  refine fs_c1 (fs_ldcl (pc := 1) (idx := 54) (v := 2147483648) C (by decide +kernel) (kw K hw q2392)) ?_
  exact fs_c0
theorem hX11_placeOf : fe_H (sX11_placeOf) cX11_placeOf [0] fe_ki [] 20 (fun _ => dX11_placeOf FX11_placeOf_0) := by
  intro j pc L st M r hc h
  rcases fe_mem_c hc with rfl | hc
  · obtain ⟨w0, m0, h⟩ := fe_lL_d h
    obtain ⟨rfl, hz⟩ := fe_t0_d h
    exact ⟨[(0, .long w0)], (fe_cs m0 fe_nl), Or.inr ((bX11_placeOf_0 FX11_placeOf_0 w0 M).symm.trans hz)⟩
  exact fe_mem_0 hc
theorem vX11_placeOf : fe_SB (sX11_placeOf) := by
  refine ⟨?_, ?_, ?_, ?_⟩
  · intro i As M r h
    exact fe_no h
  · intro i As M r h
    exact fe_no h
  · intro i As M r h
    exact fe_no h
  · intro i As M r h
    exact fe_no h
theorem eX11_placeOf (g0 : Int64 → FM → Option (Int32 × FM)) (a0 : Int64) (M : FM) : dX11_placeOf g0 0 [(0, .long a0)] [] M = g0 a0 M := by rfl
theorem mX11_placeOf (a0 : Int64) (M : FM) (r : Int32 × FM) (h : FX11_placeOf a0 M = some r) : fm_nx M ≤ fm_nx r.2 ∧ fm_ns M ≤ fm_ns r.2 :=
  fe_mono (L0 := [(0, .long a0)]) (vX11_placeOf) (by decide +kernel) (hX11_placeOf) (fe_ki_k r) 0 rfl ((eX11_placeOf FX11_placeOf_0 a0 M).trans h)
theorem zX11_placeOf {s0 : State} {H0 : Heap} {oa : Nat → Nat} {D : va_G} (K : fk s0 H0 oa D) (l : Launch) (a0 : Int64) (M : FM) (r : Int32 × FM) (h : FX11_placeOf a0 M = some r) : fs_Con (fk_E s0 H0 oa D) l 1 ⟨"BoardMachine$Memories$Ram", "placeOf", "(J)I"⟩ prog_82_method_4_code 2 (Option.some Jvm.ClassFile.FieldType.int) [.long a0] M (some (.int r.1)) r.2 := by
  refine fs_method (own := "BoardMachine$Memories$Ram") rfl (by decide) K.2.1 (by rw [fe_slen]; exact (Nat.le_of_ble_eq_true rfl)) (mX11_placeOf a0 M r h) (hX11_placeOf) 0 rfl (L0 := [(0, .long a0)]) (fun E => fe_args_e E [.long a0] 0) ((eX11_placeOf FX11_placeOf_0 a0 M).trans h) (fe_ki_k r) (fun H hR => fs_nr_o (by decide) (by decide)) ?_
  intro p e s m args below meth c Q C hnm
  have hw : s0.WarmedH s.vm := C.2.2.2.2.1
  refine fe_all C fk_hwr cX11_placeOf [1] (by decide +kernel) (fe_fil (cps := [(1, 4, .jsr_w (4095))]) (by decide +kernel) ?_)
  refine fs_c1 (fs_ldcl (pc := 1) (idx := 58) (v := 4095) C (by decide +kernel) (kw K hw q2396)) ?_
  exact fs_c0
theorem hJ5_min : fe_H (sJ5_min) cJ5_min [0, 10] fe_ki [] 20 (fun _ => dJ5_min FJ5_min_0 FJ5_min_10) := by
  intro j pc L st M r hc h
  rcases fe_mem_c hc with rfl | hc
  · obtain ⟨w0, m0, h⟩ := fe_lI_d h
    obtain ⟨w1, m1, h⟩ := fe_lI_d h
    obtain ⟨rfl, hz⟩ := fe_t0_d h
    exact ⟨[(0, .int w0), (1, .int w1)], (fe_cs m0 (fe_cs m1 fe_nl)), Or.inr ((bJ5_min_0 FJ5_min_0 FJ5_min_10 w0 w1 M).symm.trans hz)⟩
  rcases fe_mem_c hc with rfl | hc
  · obtain ⟨s0, t0, rfl, g0⟩ := fe_tI_d h
    obtain ⟨rfl, hz⟩ := fe_t0_d g0
    exact ⟨[], fe_nl, Or.inr ((bJ5_min_10 FJ5_min_0 FJ5_min_10 s0 M).symm.trans hz)⟩
  exact fe_mem_0 hc
theorem vJ5_min : fe_SB (sJ5_min) := by
  refine ⟨?_, ?_, ?_, ?_⟩
  · intro i As M r h
    exact fe_no h
  · intro i As M r h
    exact fe_no h
  · intro i As M r h
    exact fe_no h
  · intro i As M r h
    exact fe_no h
theorem eJ5_min (g0 : Int32 → Int32 → FM → Option (Int32 × FM)) (g10 : Int32 → FM → Option (Int32 × FM)) (a0 : Int32) (a1 : Int32) (M : FM) : dJ5_min g0 g10 0 [(0, .int a0), (1, .int a1)] [] M = g0 a0 a1 M := by rfl
theorem mJ5_min (a0 : Int32) (a1 : Int32) (M : FM) (r : Int32 × FM) (h : FJ5_min a0 a1 M = some r) : fm_nx M ≤ fm_nx r.2 ∧ fm_ns M ≤ fm_ns r.2 :=
  fe_mono (L0 := [(0, .int a0), (1, .int a1)]) (vJ5_min) (by decide +kernel) (hJ5_min) (fe_ki_k r) 0 rfl ((eJ5_min FJ5_min_0 FJ5_min_10 a0 a1 M).trans h)
theorem zJ5_min (a0 : Int32) (a1 : Int32) (M : FM) (r : Int32 × FM) (h : FJ5_min a0 a1 M = some r) : r = (fm_min a0 a1, M) := by
  change fi (a1 < a0) (some (a1, M)) (some (a0, M)) = some r at h
  unfold fm_min
  by_cases q : a1 < a0
  · rw [fi_pos q] at h
    rw [if_pos q]
    exact (Option.some.inj h).symm
  · rw [fi_neg q] at h
    rw [if_neg q]
    exact (Option.some.inj h).symm
theorem hX91_init : fe_H (sX91_init) cX91_init [0] fe_kv [] 20 (fun _ => dX91_init FX91_init_0) := by
  intro j pc L st M r hc h
  rcases fe_mem_c hc with rfl | hc
  · obtain ⟨w0, m0, h⟩ := fe_lR_d h
    obtain ⟨rfl, hz⟩ := fe_t0_d h
    exact ⟨[(0, .ref w0)], (fe_cs m0 fe_nl), Or.inr ((bX91_init_0 FX91_init_0 w0 M).symm.trans hz)⟩
  exact fe_mem_0 hc
theorem vX91_init : fe_SB (sX91_init) := by
  refine ⟨?_, ?_, ?_, ?_⟩
  · intro i As M r h
    exact fe_no h
  · intro i As M r h
    exact fe_no h
  · intro i As M r h
    exact fe_no h
  · intro i As M r h
    exact fe_no h
theorem eX91_init (g0 : Nat → FM → Option (FM)) (a0 : Nat) (M : FM) : dX91_init g0 0 [(0, .ref a0)] [] M = g0 a0 M := by rfl
theorem mX91_init (a0 : Nat) (M : FM) (r : FM) (h : FX91_init a0 M = some r) : fm_nx M ≤ fm_nx r ∧ fm_ns M ≤ fm_ns r :=
  fe_mono (L0 := [(0, .ref a0)]) (vX91_init) (by decide +kernel) (hX91_init) (fe_kv_k r) 0 rfl ((eX91_init FX91_init_0 a0 M).trans h)
theorem zX91_init {s0 : State} {H0 : Heap} {oa : Nat → Nat} {D : va_G} (K : fk s0 H0 oa D) (l : Launch) (a0 : Nat) (M : FM) (r : FM) (h : FX91_init a0 M = some r) : fs_Con (fk_E s0 H0 oa D) l 1 ⟨"BoardMachine$Memories$Page", "<init>", "()V"⟩ prog_81_method_1_code 1 (Option.none : Option Jvm.ClassFile.FieldType) [.ref a0] M none r := by
  refine fs_method (own := "BoardMachine$Memories$Page") rfl (by decide) K.2.1 (by rw [fe_slen]; exact (Nat.le_of_ble_eq_true rfl)) (mX91_init a0 M r h) (hX91_init) 0 rfl (L0 := [(0, .ref a0)]) (fun E => fe_args_e E [.ref a0] 0) ((eX91_init FX91_init_0 a0 M).trans h) (fe_kv_k r) (fun H hR => fs_nr_o (by decide) (by decide)) ?_
  intro p e s m args below meth c Q C hnm
  have hw : s0.WarmedH s.vm := C.2.2.2.2.1
  refine fe_all C fk_hwr cX91_init [1, 8, 10] (by decide +kernel) (fe_fil (cps := [(1, 4, .monitorenter), (8, 10, .anewarray 206726), (10, 13, .putfield 843350306)]) (by decide +kernel) ?_)
  refine fs_c1 (fs_init (pc := 1) (idx := 3) C (by decide +kernel) (kw K hw q2408) (kw K hw q441) (kw K hw q442) ⟨(Nat.le_of_ble_eq_true rfl), (Nat.le_of_ble_eq_true rfl)⟩) ?_
  refine fs_c1 (fs_newL (pc := 8) (n := 206726) C (by decide +kernel) (kw K hw q648) rfl rfl) ?_
  refine fs_c1 (fs_putf (pc := 10) (n := 843350306) (idx := 9) (ref := "BoardMachine$Memories$Page") (O := "BoardMachine$Memories$Page") (name := "words") (desc := "[J") (fin := true) (ty := (.array .long)) C (by decide +kernel) (Or.inr ⟨rfl, kw K hw q2409, hnm, rfl⟩) (fun _ h => h) (Nat.le_of_ble_eq_true rfl) (Nat.le_of_ble_eq_true rfl) (Nat.le_of_ble_eq_true rfl) rfl rfl (by decide) (fs_one (⟨rfl, ff_72_201 s0 H0 oa D⟩))) ?_
  exact fs_c0
theorem hX11_made : fe_H (sX11_made FX91_init) cX11_made [0, 22] fe_ka [] 22 (fun _ => dX11_made FX11_made_0 FX11_made_22) := by
  intro j pc L st M r hc h
  rcases fe_mem_c hc with rfl | hc
  · obtain ⟨w0, m0, h⟩ := fe_lR_d h
    obtain ⟨w1, m1, h⟩ := fe_lI_d h
    obtain ⟨rfl, hz⟩ := fe_t0_d h
    exact ⟨[(0, .ref w0), (1, .int w1)], (fe_cs m0 (fe_cs m1 fe_nl)), Or.inr ((bX11_made_0 FX91_init FX11_made_0 FX11_made_22 w0 w1 M).symm.trans hz)⟩
  rcases fe_mem_c hc with rfl | hc
  · obtain ⟨w0, m0, h⟩ := fe_lR_d h
    obtain ⟨w1, m1, h⟩ := fe_lI_d h
    obtain ⟨rfl, hz⟩ := fe_t0_d h
    exact ⟨[(0, .ref w0), (1, .int w1)], (fe_cs m0 (fe_cs m1 fe_nl)), Or.inr ((bX11_made_22 FX91_init FX11_made_0 FX11_made_22 w0 w1 M).symm.trans hz)⟩
  exact fe_mem_0 hc
theorem vX11_made : fe_SB (sX11_made FX91_init) := by
  refine ⟨?_, ?_, ?_, ?_⟩
  · intro i As M r h
    rcases fe_bc h with h | h
    · obtain ⟨v0, t0, rfl, g0⟩ := fe_tR_d h
      obtain ⟨rfl, hz⟩ := fe_t0_d g0
      exact mX91_init v0 M r hz
    exact fe_no h
  · intro i As M r h
    exact fe_no h
  · intro i As M r h
    exact fe_no h
  · intro i As M r h
    exact fe_no h
theorem eX11_made (g0 : Nat → Int32 → FM → Option (Nat × FM)) (g22 : Nat → Int32 → FM → Option (Nat × FM)) (a0 : Nat) (a1 : Int32) (M : FM) : dX11_made g0 g22 0 [(0, .ref a0), (1, .int a1)] [] M = g0 a0 a1 M := by rfl
theorem mX11_made (a0 : Nat) (a1 : Int32) (M : FM) (r : Nat × FM) (h : FX11_made a0 a1 M = some r) : fm_nx M ≤ fm_nx r.2 ∧ fm_ns M ≤ fm_ns r.2 :=
  fe_mono (L0 := [(0, .ref a0), (1, .int a1)]) (vX11_made) (by decide +kernel) (hX11_made) (fe_ka_k r) 0 rfl ((eX11_made FX11_made_0 FX11_made_22 a0 a1 M).trans h)
theorem zX11_made {s0 : State} {H0 : Heap} {oa : Nat → Nat} {D : va_G} (K : fk s0 H0 oa D) (l : Launch) (a0 : Nat) (a1 : Int32) (M : FM) (r : Nat × FM) (h : FX11_made a0 a1 M = some r) : fs_Con (fk_E s0 H0 oa D) l 2 ⟨"BoardMachine$Memories$Ram", "made", "(I)LBoardMachine$Memories$Page;"⟩ prog_82_method_5_code 2 (Option.some (Jvm.ClassFile.FieldType.object "BoardMachine$Memories$Page")) [.ref a0, .int a1] M (some (.ref r.1)) r.2 := by
  have o0 : fs_OS (sX11_made FX91_init) 0 0 (fs_Con (fk_E s0 H0 oa D) l 1 ⟨"BoardMachine$Memories$Page", "<init>", "()V"⟩ prog_81_method_1_code 1 (Option.none : Option Jvm.ClassFile.FieldType)) := by
    intro As M r h
    obtain ⟨v0, t0, rfl, g0⟩ := fe_tR_d h
    obtain ⟨rfl, hz⟩ := fe_t0_d g0
    exact zX91_init K l v0 M r hz
  refine fs_method (own := "BoardMachine$Memories$Ram") rfl (by decide) K.2.1 (by rw [fe_slen]; exact (Nat.le_of_ble_eq_true rfl)) (mX11_made a0 a1 M r h) (hX11_made) 0 rfl (L0 := [(0, .ref a0), (1, .int a1)]) (fun E => fe_args_e E [.ref a0, .int a1] 0) ((eX11_made FX11_made_0 FX11_made_22 a0 a1 M).trans h) (fe_ka_k r) (fun H hR => fs_nr_o (by decide) (by decide)) ?_
  intro p e s m args below meth c Q C hnm
  have hw : s0.WarmedH s.vm := C.2.2.2.2.1
  refine fe_all C fk_hwr cX11_made [1, 10, 14, 18, 21, 23] (by decide +kernel) (fe_fil (cps := [(1, 4, .getfield 851743014), (10, 13, .getfield 851743014), (14, 17, .new 4609), (18, 21, .invokevirtual 4268104), (21, 22, .instanceof 964763720), (23, 26, .getfield 851743014)]) (by decide +kernel) ?_)
  refine fs_c1 (fs_getf (pc := 1) (n := 851743014) (idx := 11) (ref := "BoardMachine$Memories$Ram") (O := "BoardMachine$Memories$Ram") (name := "pages") (desc := "[LBoardMachine$Memories$Page;") C (by decide +kernel) (Or.inl (kw K hw q691)) (fun _ h => h) (Nat.le_of_ble_eq_true rfl) (Nat.le_of_ble_eq_true rfl) (fs_one (⟨_, ff_73_203 s0 H0 oa D⟩))) ?_
  refine fs_c1 (fs_getf (pc := 10) (n := 851743014) (idx := 11) (ref := "BoardMachine$Memories$Ram") (O := "BoardMachine$Memories$Ram") (name := "pages") (desc := "[LBoardMachine$Memories$Page;") C (by decide +kernel) (Or.inl (kw K hw q691)) (fun _ h => h) (Nat.le_of_ble_eq_true rfl) (Nat.le_of_ble_eq_true rfl) (fs_one (⟨_, ff_73_203 s0 H0 oa D⟩))) ?_
  refine fs_c1 (fs_newo (pc := 14) (n := 4609) (idx := 9) (CC := "BoardMachine$Memories$Page") (T := fT_72) (N := 1) C (by decide +kernel) (kw K hw q630) (kw K hw q2404) (kw K hw q408) (by decide) (Nat.le_of_ble_eq_true rfl) rfl rfl) ?_
  refine fs_c1 (fs_inv_virtual (pc := 18) (n := 4268104) C (Nat.le_of_ble_eq_true rfl) (Nat.le_of_ble_eq_true rfl) (fs_lk_init (idx := 60) (y := ⟨"BoardMachine$Memories$Page", "<init>", "()V"⟩) (bytes := prog_81_method_1_code) (maxL := 1) (d := 1) C (Nat.le_of_ble_eq_true rfl) (Nat.le_of_ble_eq_true rfl) (by decide +kernel) (kw K hw q2407) (kw K hw q408) (kw K hw q2406) (Or.inr ⟨_, kM K hw q2405⟩) rfl ⟨by decide, by decide⟩ rfl (Nat.le_of_ble_eq_true rfl) (Nat.le_of_ble_eq_true rfl)) fs_con_mono o0) ?_
  refine fs_c1 (fs_astr (pc := 21) (n := 964763720) (EE := "BoardMachine$Memories$Page") C (by decide +kernel) (Nat.le_of_ble_eq_true rfl) rfl rfl (Nat.le_of_ble_eq_true rfl) (Nat.le_of_ble_eq_true rfl) (fs_one (⟨_, rfl, Or.inl rfl⟩))) ?_
  refine fs_c1 (fs_getf (pc := 23) (n := 851743014) (idx := 11) (ref := "BoardMachine$Memories$Ram") (O := "BoardMachine$Memories$Ram") (name := "pages") (desc := "[LBoardMachine$Memories$Page;") C (by decide +kernel) (Or.inl (kw K hw q691)) (fun _ h => h) (Nat.le_of_ble_eq_true rfl) (Nat.le_of_ble_eq_true rfl) (fs_one (⟨_, ff_73_203 s0 H0 oa D⟩))) ?_
  exact fs_c0
theorem hX91_mask : fe_H (sX91_mask) cX91_mask [0, 20] fe_kl [] 20 (fun _ => dX91_mask FX91_mask_0 FX91_mask_20) := by
  intro j pc L st M r hc h
  rcases fe_mem_c hc with rfl | hc
  · obtain ⟨w0, m0, h⟩ := fe_lI_d h
    obtain ⟨rfl, hz⟩ := fe_t0_d h
    exact ⟨[(0, .int w0)], (fe_cs m0 fe_nl), Or.inr ((bX91_mask_0 FX91_mask_0 FX91_mask_20 w0 M).symm.trans hz)⟩
  rcases fe_mem_c hc with rfl | hc
  · obtain ⟨s0, t0, rfl, g0⟩ := fe_tL_d h
    obtain ⟨rfl, hz⟩ := fe_t0_d g0
    exact ⟨[], fe_nl, Or.inr ((bX91_mask_20 FX91_mask_0 FX91_mask_20 s0 M).symm.trans hz)⟩
  exact fe_mem_0 hc
theorem vX91_mask : fe_SB (sX91_mask) := by
  refine ⟨?_, ?_, ?_, ?_⟩
  · intro i As M r h
    exact fe_no h
  · intro i As M r h
    exact fe_no h
  · intro i As M r h
    exact fe_no h
  · intro i As M r h
    exact fe_no h
theorem eX91_mask (g0 : Int32 → FM → Option (Int64 × FM)) (g20 : Int64 → FM → Option (Int64 × FM)) (a0 : Int32) (M : FM) : dX91_mask g0 g20 0 [(0, .int a0)] [] M = g0 a0 M := by rfl
theorem mX91_mask (a0 : Int32) (M : FM) (r : Int64 × FM) (h : FX91_mask a0 M = some r) : fm_nx M ≤ fm_nx r.2 ∧ fm_ns M ≤ fm_ns r.2 :=
  fe_mono (L0 := [(0, .int a0)]) (vX91_mask) (by decide +kernel) (hX91_mask) (fe_kl_k r) 0 rfl ((eX91_mask FX91_mask_0 FX91_mask_20 a0 M).trans h)
theorem zX91_mask {s0 : State} {H0 : Heap} {oa : Nat → Nat} {D : va_G} (K : fk s0 H0 oa D) (l : Launch) (a0 : Int32) (M : FM) (r : Int64 × FM) (h : FX91_mask a0 M = some r) : fs_Con (fk_E s0 H0 oa D) l 1 ⟨"BoardMachine$Memories$Page", "mask", "(I)J"⟩ prog_81_method_2_code 1 (Option.some Jvm.ClassFile.FieldType.long) [.int a0] M (some (.long r.1)) r.2 := by
  refine fs_method (own := "BoardMachine$Memories$Page") rfl (by decide) K.2.1 (by rw [fe_slen]; exact (Nat.le_of_ble_eq_true rfl)) (mX91_mask a0 M r h) (hX91_mask) 0 rfl (L0 := [(0, .int a0)]) (fun E => fe_args_e E [.int a0] 0) ((eX91_mask FX91_mask_0 FX91_mask_20 a0 M).trans h) (fe_kl_k r) (fun H hR => fs_nr_o (by decide) (by decide)) ?_
  intro p e s m args below meth c Q C hnm
  have hw : s0.WarmedH s.vm := C.2.2.2.2.1
  refine fe_all C fk_hwr cX91_mask [6] (by decide +kernel) (fe_fil (cps := [(6, 9, .jsr_w (-1))]) (by decide +kernel) ?_)
  refine fs_c1 (fs_ldcl (pc := 6) (idx := 15) (v := -1) C (by decide +kernel) (kw K hw q2420)) ?_
  exact fs_c0
theorem hX91_put : fe_H (sX91_put FX91_mask) cX91_put [0, 106] fe_kv [] 74 (fun _ => dX91_put FX91_put_0 FX91_put_106) := by
  intro j pc L st M r hc h
  rcases fe_mem_c hc with rfl | hc
  · obtain ⟨w0, m0, h⟩ := fe_lR_d h
    obtain ⟨w1, m1, h⟩ := fe_lI_d h
    obtain ⟨w2, m2, h⟩ := fe_lI_d h
    obtain ⟨w3, m3, h⟩ := fe_lL_d h
    obtain ⟨rfl, hz⟩ := fe_t0_d h
    exact ⟨[(0, .ref w0), (1, .int w1), (2, .int w2), (3, .long w3)], (fe_cs m0 (fe_cs m1 (fe_cs m2 (fe_cs m3 fe_nl)))), Or.inr ((bX91_put_0 FX91_mask FX91_put_0 FX91_put_106 w0 w1 w2 w3 M).symm.trans hz)⟩
  rcases fe_mem_c hc with rfl | hc
  · obtain ⟨rfl, hz⟩ := fe_t0_d h
    exact ⟨[], fe_nl, Or.inr ((bX91_put_106 FX91_mask FX91_put_0 FX91_put_106 M).symm.trans hz)⟩
  exact fe_mem_0 hc
theorem vX91_put : fe_SB (sX91_put FX91_mask) := by
  refine ⟨?_, ?_, ?_, ?_⟩
  · intro i As M r h
    exact fe_no h
  · intro i As M r h
    exact fe_no h
  · intro i As M r h
    rcases fe_bc h with h | h
    · obtain ⟨v0, t0, rfl, g0⟩ := fe_tI_d h
      obtain ⟨rfl, hz⟩ := fe_t0_d g0
      exact mX91_mask v0 M r hz
    exact fe_no h
  · intro i As M r h
    exact fe_no h
theorem eX91_put (g0 : Nat → Int32 → Int32 → Int64 → FM → Option (FM)) (g106 : FM → Option (FM)) (a0 : Nat) (a1 : Int32) (a2 : Int32) (a3 : Int64) (M : FM) : dX91_put g0 g106 0 [(0, .ref a0), (1, .int a1), (2, .int a2), (3, .long a3)] [] M = g0 a0 a1 a2 a3 M := by rfl
theorem mX91_put (a0 : Nat) (a1 : Int32) (a2 : Int32) (a3 : Int64) (M : FM) (r : FM) (h : FX91_put a0 a1 a2 a3 M = some r) : fm_nx M ≤ fm_nx r ∧ fm_ns M ≤ fm_ns r :=
  fe_mono (L0 := [(0, .ref a0), (1, .int a1), (2, .int a2), (3, .long a3)]) (vX91_put) (by decide +kernel) (hX91_put) (fe_kv_k r) 0 rfl ((eX91_put FX91_put_0 FX91_put_106 a0 a1 a2 a3 M).trans h)
theorem zX91_put {s0 : State} {H0 : Heap} {oa : Nat → Nat} {D : va_G} (K : fk s0 H0 oa D) (l : Launch) (a0 : Nat) (a1 : Int32) (a2 : Int32) (a3 : Int64) (M : FM) (r : FM) (h : FX91_put a0 a1 a2 a3 M = some r) : fs_Con (fk_E s0 H0 oa D) l 2 ⟨"BoardMachine$Memories$Page", "put", "(IIJ)V"⟩ prog_81_method_4_code 9 (Option.none : Option Jvm.ClassFile.FieldType) [.ref a0, .int a1, .int a2, .long a3] M none r := by
  have o0 : fs_OS (sX91_put FX91_mask) 0 2 (fs_Con (fk_E s0 H0 oa D) l 1 ⟨"BoardMachine$Memories$Page", "mask", "(I)J"⟩ prog_81_method_2_code 1 (Option.some Jvm.ClassFile.FieldType.long)) := by
    intro As M r h
    obtain ⟨v0, t0, rfl, g0⟩ := fe_tI_d h
    obtain ⟨rfl, hz⟩ := fe_t0_d g0
    exact zX91_mask K l v0 M r hz
  refine fs_method (own := "BoardMachine$Memories$Page") rfl (by decide) K.2.1 (by rw [fe_slen]; exact (Nat.le_of_ble_eq_true rfl)) (mX91_put a0 a1 a2 a3 M r h) (hX91_put) 0 rfl (L0 := [(0, .ref a0), (1, .int a1), (2, .int a2), (3, .long a3)]) (fun E => fe_args_e E [.ref a0, .int a1, .int a2, .long a3] 0) ((eX91_put FX91_put_0 FX91_put_106 a0 a1 a2 a3 M).trans h) (fe_kv_k r) (fun H hR => fs_nr_o (by decide) (by decide)) ?_
  intro p e s m args below meth c Q C hnm
  have hw : s0.WarmedH s.vm := C.2.2.2.2.1
  refine fe_all C fk_hwr cX91_put [15, 21, 27, 38, 65, 73, 89] (by decide +kernel) (fe_fil (cps := [(15, 18, .invokestatic 6), (21, 24, .getfield 843350306), (27, 30, .getfield 843350306), (38, 41, .jsr_w (-1)), (65, 68, .getfield 843350306), (73, 76, .getfield 843350306), (89, 92, .jsr_w (-1))]) (by decide +kernel) ?_)
  refine fs_c1 (fs_inv_static (pc := 15) (n := 6) C (fs_lk_static (idx := 17) (y := ⟨"BoardMachine$Memories$Page", "mask", "(I)J"⟩) (bytes := prog_81_method_2_code) (maxL := 1) (rt := (Option.some Jvm.ClassFile.FieldType.long)) (d := 1) C (by decide +kernel) (kw K hw q2419) (kw K hw q408) (kw K hw q2418) (Or.inl (kw K hw q2417)) ⟨by decide, by decide⟩ rfl (Nat.le_of_ble_eq_true rfl) (Nat.le_of_ble_eq_true rfl)) fs_con_mono o0) ?_
  refine fs_c1 (fs_getf (pc := 21) (n := 843350306) (idx := 9) (ref := "BoardMachine$Memories$Page") (O := "BoardMachine$Memories$Page") (name := "words") (desc := "[J") C (by decide +kernel) (Or.inl (kw K hw q2409)) (fun _ h => h) (Nat.le_of_ble_eq_true rfl) (Nat.le_of_ble_eq_true rfl) (fs_one (⟨_, ff_72_201 s0 H0 oa D⟩))) ?_
  refine fs_c1 (fs_getf (pc := 27) (n := 843350306) (idx := 9) (ref := "BoardMachine$Memories$Page") (O := "BoardMachine$Memories$Page") (name := "words") (desc := "[J") C (by decide +kernel) (Or.inl (kw K hw q2409)) (fun _ h => h) (Nat.le_of_ble_eq_true rfl) (Nat.le_of_ble_eq_true rfl) (fs_one (⟨_, ff_72_201 s0 H0 oa D⟩))) ?_
  refine fs_c1 (fs_ldcl (pc := 38) (idx := 15) (v := -1) C (by decide +kernel) (kw K hw q2420)) ?_
  refine fs_c1 (fs_getf (pc := 65) (n := 843350306) (idx := 9) (ref := "BoardMachine$Memories$Page") (O := "BoardMachine$Memories$Page") (name := "words") (desc := "[J") C (by decide +kernel) (Or.inl (kw K hw q2409)) (fun _ h => h) (Nat.le_of_ble_eq_true rfl) (Nat.le_of_ble_eq_true rfl) (fs_one (⟨_, ff_72_201 s0 H0 oa D⟩))) ?_
  refine fs_c1 (fs_getf (pc := 73) (n := 843350306) (idx := 9) (ref := "BoardMachine$Memories$Page") (O := "BoardMachine$Memories$Page") (name := "words") (desc := "[J") C (by decide +kernel) (Or.inl (kw K hw q2409)) (fun _ h => h) (Nat.le_of_ble_eq_true rfl) (Nat.le_of_ble_eq_true rfl) (fs_one (⟨_, ff_72_201 s0 H0 oa D⟩))) ?_
  refine fs_c1 (fs_ldcl (pc := 89) (idx := 15) (v := -1) C (by decide +kernel) (kw K hw q2420)) ?_
  exact fs_c0
theorem hX12_touch : fe_H (sX12_touch) cX12_touch [0, 33] fe_kv [] 24 (fun _ => dX12_touch FX12_touch_0 FX12_touch_33) := by
  intro j pc L st M r hc h
  rcases fe_mem_c hc with rfl | hc
  · obtain ⟨w0, m0, h⟩ := fe_lR_d h
    obtain ⟨w1, m1, h⟩ := fe_lL_d h
    obtain ⟨w3, m3, h⟩ := fe_lL_d h
    obtain ⟨rfl, hz⟩ := fe_t0_d h
    exact ⟨[(0, .ref w0), (1, .long w1), (3, .long w3)], (fe_cs m0 (fe_cs m1 (fe_cs m3 fe_nl))), Or.inr ((bX12_touch_0 FX12_touch_0 FX12_touch_33 w0 w1 w3 M).symm.trans hz)⟩
  rcases fe_mem_c hc with rfl | hc
  · obtain ⟨rfl, hz⟩ := fe_t0_d h
    exact ⟨[], fe_nl, Or.inr ((bX12_touch_33 FX12_touch_0 FX12_touch_33 M).symm.trans hz)⟩
  exact fe_mem_0 hc
theorem vX12_touch : fe_SB (sX12_touch) := by
  refine ⟨?_, ?_, ?_, ?_⟩
  · intro i As M r h
    exact fe_no h
  · intro i As M r h
    exact fe_no h
  · intro i As M r h
    exact fe_no h
  · intro i As M r h
    exact fe_no h
theorem eX12_touch (g0 : Nat → Int64 → Int64 → FM → Option (FM)) (g33 : FM → Option (FM)) (a0 : Nat) (a1 : Int64) (a3 : Int64) (M : FM) : dX12_touch g0 g33 0 [(0, .ref a0), (1, .long a1), (3, .long a3)] [] M = g0 a0 a1 a3 M := by rfl
theorem mX12_touch (a0 : Nat) (a1 : Int64) (a3 : Int64) (M : FM) (r : FM) (h : FX12_touch a0 a1 a3 M = some r) : fm_nx M ≤ fm_nx r ∧ fm_ns M ≤ fm_ns r :=
  fe_mono (L0 := [(0, .ref a0), (1, .long a1), (3, .long a3)]) (vX12_touch) (by decide +kernel) (hX12_touch) (fe_kv_k r) 0 rfl ((eX12_touch FX12_touch_0 FX12_touch_33 a0 a1 a3 M).trans h)
theorem zX12_touch {s0 : State} {H0 : Heap} {oa : Nat → Nat} {D : va_G} (K : fk s0 H0 oa D) (l : Launch) (a0 : Nat) (a1 : Int64) (a3 : Int64) (M : FM) (r : FM) (h : FX12_touch a0 a1 a3 M = some r) : fs_Con (fk_E s0 H0 oa D) l 1 ⟨"BoardMachine$Memories$Reservation", "touch", "(JJ)V"⟩ prog_83_method_5_code 7 (Option.none : Option Jvm.ClassFile.FieldType) [.ref a0, .long a1, .long a3] M none r := by
  refine fs_method (own := "BoardMachine$Memories$Reservation") rfl (by decide) K.2.1 (by rw [fe_slen]; exact (Nat.le_of_ble_eq_true rfl)) (mX12_touch a0 a1 a3 M r h) (hX12_touch) 0 rfl (L0 := [(0, .ref a0), (1, .long a1), (3, .long a3)]) (fun E => fe_args_e E [.ref a0, .long a1, .long a3] 0) ((eX12_touch FX12_touch_0 FX12_touch_33 a0 a1 a3 M).trans h) (fe_kv_k r) (fun H hR => fs_nr_o (by decide) (by decide)) ?_
  intro p e s m args below meth c Q C hnm
  have hw : s0.WarmedH s.vm := C.2.2.2.2.1
  refine fe_all C fk_hwr cX12_touch [1, 4, 13, 30] (by decide +kernel) (fe_fil (cps := [(1, 4, .getfield 868524329), (4, 7, .jsr_w (-8)), (13, 16, .jsr_w (8)), (30, 33, .putfield 872718632)]) (by decide +kernel) ?_)
  refine fs_c1 (fs_getf (pc := 1) (n := 868524329) (idx := 7) (ref := "BoardMachine$Memories$Reservation") (O := "BoardMachine$Memories$Reservation") (name := "address") (desc := "J") C (by decide +kernel) (Or.inl (kw K hw q641)) (fun _ h => h) (Nat.le_of_ble_eq_true rfl) (Nat.le_of_ble_eq_true rfl) (fs_one (⟨_, ff_74_207 s0 H0 oa D⟩))) ?_
  refine fs_c1 (fs_ldcl (pc := 4) (idx := 17) (v := -8) C (by decide +kernel) (kw K hw q2429)) ?_
  refine fs_c1 (fs_ldcl (pc := 13) (idx := 19) (v := 8) C (by decide +kernel) (kw K hw q2430)) ?_
  refine fs_c1 (fs_putf (pc := 30) (n := 872718632) (idx := 13) (ref := "BoardMachine$Memories$Reservation") (O := "BoardMachine$Memories$Reservation") (name := "size") (desc := "I") (fin := false) (ty := .int) C (by decide +kernel) (Or.inl ⟨rfl, Or.inl (kw K hw q642)⟩) (fun _ h => h) (Nat.le_of_ble_eq_true rfl) (Nat.le_of_ble_eq_true rfl) (Nat.le_of_ble_eq_true rfl) rfl rfl (by decide) (fs_one (⟨rfl, ff_74_208 s0 H0 oa D⟩))) ?_
  exact fs_c0
theorem hX11_touch (n : Nat) : fe_H (sX11_touch FX12_touch) cX11_touch [0, 14] fe_kv [14] 27 (fun j => dX11_touch (FX11_touch_0 n (FX11_touch_L14 n j)) (FX11_touch_L14 n j)) := by
  intro j pc L st M r hc h
  rcases fe_mem_c hc with rfl | hc
  · obtain ⟨w0, m0, h⟩ := fe_lR_d h
    obtain ⟨w1, m1, h⟩ := fe_lL_d h
    obtain ⟨w3, m3, h⟩ := fe_lL_d h
    obtain ⟨rfl, hz⟩ := fe_t0_d h
    exact ⟨[(0, .ref w0), (1, .long w1), (3, .long w3)], (fe_cs m0 (fe_cs m1 (fe_cs m3 fe_nl))), Or.inr ((bX11_touch_0 FX12_touch (FX11_touch_0 n (FX11_touch_L14 n j)) (FX11_touch_L14 n j) w0 w1 w3 M).symm.trans hz)⟩
  rcases fe_mem_c hc with rfl | hc
  · obtain ⟨w1, m1, h⟩ := fe_lL_d h
    obtain ⟨w3, m3, h⟩ := fe_lL_d h
    obtain ⟨w5, m5, h⟩ := fe_lR_d h
    obtain ⟨w6, m6, h⟩ := fe_lI_d h
    obtain ⟨w7, m7, h⟩ := fe_lI_d h
    obtain ⟨rfl, hz⟩ := fe_t0_d h
    cases j with
    | zero => exact fe_no hz
    | succ j => exact ⟨[(1, .long w1), (3, .long w3), (5, .ref w5), (6, .int w6), (7, .int w7)], (fe_cs m1 (fe_cs m3 (fe_cs m5 (fe_cs m6 (fe_cs m7 fe_nl))))), Or.inl ⟨j, rfl, (bX11_touch_14 FX12_touch (FX11_touch_0 n (FX11_touch_L14 n j)) (FX11_touch_L14 n j) w1 w3 w5 w6 w7 M).symm.trans hz⟩⟩
  exact fe_mem_0 hc
theorem vX11_touch (n : Nat) : fe_SB (sX11_touch FX12_touch) := by
  refine ⟨?_, ?_, ?_, ?_⟩
  · intro i As M r h
    rcases fe_bc h with h | h
    · obtain ⟨v0, t0, rfl, g0⟩ := fe_tR_d h
      obtain ⟨v1, t1, rfl, g1⟩ := fe_tL_d g0
      obtain ⟨v2, t2, rfl, g2⟩ := fe_tL_d g1
      obtain ⟨rfl, hz⟩ := fe_t0_d g2
      exact mX12_touch v0 v1 v2 M r hz
    exact fe_no h
  · intro i As M r h
    exact fe_no h
  · intro i As M r h
    exact fe_no h
  · intro i As M r h
    exact fe_no h
theorem eX11_touch (g0 : Nat → Int64 → Int64 → FM → Option (FM)) (k14 : Int64 → Int64 → Nat → Int32 → Int32 → FM → Option (FM)) (a0 : Nat) (a1 : Int64) (a3 : Int64) (M : FM) : dX11_touch g0 k14 0 [(0, .ref a0), (1, .long a1), (3, .long a3)] [] M = g0 a0 a1 a3 M := by rfl
theorem mX11_touch (n : Nat) (a0 : Nat) (a1 : Int64) (a3 : Int64) (M : FM) (r : FM) (h : FX11_touch n a0 a1 a3 M = some r) : fm_nx M ≤ fm_nx r ∧ fm_ns M ≤ fm_ns r :=
  fe_mono (L0 := [(0, .ref a0), (1, .long a1), (3, .long a3)]) (vX11_touch n) (by decide +kernel) (hX11_touch n) (fe_kv_k r) n rfl ((eX11_touch (FX11_touch_0 n (FX11_touch_L14 n n)) (FX11_touch_L14 n n) a0 a1 a3 M).trans h)
theorem zX11_touch {s0 : State} {H0 : Heap} {oa : Nat → Nat} {D : va_G} (K : fk s0 H0 oa D) (l : Launch) (n : Nat) (a0 : Nat) (a1 : Int64) (a3 : Int64) (M : FM) (r : FM) (h : FX11_touch n a0 a1 a3 M = some r) : fs_Con (fk_E s0 H0 oa D) l 2 ⟨"BoardMachine$Memories$Ram", "touch", "(JJ)V"⟩ prog_82_method_7_code 9 (Option.none : Option Jvm.ClassFile.FieldType) [.ref a0, .long a1, .long a3] M none r := by
  have o0 : fs_OS (sX11_touch FX12_touch) 0 0 (fs_Con (fk_E s0 H0 oa D) l 1 ⟨"BoardMachine$Memories$Reservation", "touch", "(JJ)V"⟩ prog_83_method_5_code 7 (Option.none : Option Jvm.ClassFile.FieldType)) := by
    intro As M r h
    obtain ⟨v0, t0, rfl, g0⟩ := fe_tR_d h
    obtain ⟨v1, t1, rfl, g1⟩ := fe_tL_d g0
    obtain ⟨v2, t2, rfl, g2⟩ := fe_tL_d g1
    obtain ⟨rfl, hz⟩ := fe_t0_d g2
    exact zX12_touch K l v0 v1 v2 M r hz
  refine fs_method (own := "BoardMachine$Memories$Ram") rfl (by decide) K.2.1 (by rw [fe_slen]; exact (Nat.le_of_ble_eq_true rfl)) (mX11_touch n a0 a1 a3 M r h) (hX11_touch n) n rfl (L0 := [(0, .ref a0), (1, .long a1), (3, .long a3)]) (fun E => fe_args_e E [.ref a0, .long a1, .long a3] 0) ((eX11_touch (FX11_touch_0 n (FX11_touch_L14 n n)) (FX11_touch_L14 n n) a0 a1 a3 M).trans h) (fe_kv_k r) (fun H hR => fs_nr_o (by decide) (by decide)) ?_
  intro p e s m args below meth c Q C hnm
  have hw : s0.WarmedH s.vm := C.2.2.2.2.1
  refine fe_all C fk_hwr cX11_touch [1, 32] (by decide +kernel) (fe_fil (cps := [(1, 4, .getfield 860131622), (32, 35, .invokevirtual 12658762)]) (by decide +kernel) ?_)
  refine fs_c1 (fs_getf (pc := 1) (n := 860131622) (idx := 23) (ref := "BoardMachine$Memories$Ram") (O := "BoardMachine$Memories$Ram") (name := "reservations") (desc := "[LBoardMachine$Memories$Reservation;") C (by decide +kernel) (Or.inl (kw K hw q695)) (fun _ h => h) (Nat.le_of_ble_eq_true rfl) (Nat.le_of_ble_eq_true rfl) (fs_one (⟨_, ff_73_205 s0 H0 oa D⟩))) ?_
  refine fs_c1 (fs_inv_virtual (pc := 32) (n := 12658762) C (Nat.le_of_ble_eq_true rfl) (Nat.le_of_ble_eq_true rfl) (fs_lk_virtual (idx := 78) (y := ⟨"BoardMachine$Memories$Reservation", "touch", "(JJ)V"⟩) (bytes := prog_83_method_5_code) (maxL := 7) (rt := (Option.none : Option Jvm.ClassFile.FieldType)) (d := 1) C (Nat.le_of_ble_eq_true rfl) (Nat.le_of_ble_eq_true rfl) (by decide +kernel) (kw K hw q2428) (kw K hw q322) (kw K hw q2426) (Or.inl (kw K hw q2425)) ⟨by decide, by decide⟩ rfl (Nat.le_of_ble_eq_true rfl) (Nat.le_of_ble_eq_true rfl) (fs_one (⟨_, rfl, kw K hw q2427⟩))) fs_con_mono o0) ?_
  exact fs_c0
theorem hX11_store (n : Nat) : fe_H (sX11_store FX11_pageOf FX11_placeOf FJ5_min FX11_made FX91_put (FX11_touch n)) cX11_store [0, 93] fe_kv [] 68 (fun _ => dX11_store (FX11_store_0 n) (FX11_store_93 n)) := by
  intro j pc L st M r hc h
  rcases fe_mem_c hc with rfl | hc
  · obtain ⟨w0, m0, h⟩ := fe_lR_d h
    obtain ⟨w1, m1, h⟩ := fe_lL_d h
    obtain ⟨w3, m3, h⟩ := fe_lI_d h
    obtain ⟨w4, m4, h⟩ := fe_lL_d h
    obtain ⟨rfl, hz⟩ := fe_t0_d h
    exact ⟨[(0, .ref w0), (1, .long w1), (3, .int w3), (4, .long w4)], (fe_cs m0 (fe_cs m1 (fe_cs m3 (fe_cs m4 fe_nl)))), Or.inr ((bX11_store_0 FX11_pageOf FX11_placeOf FJ5_min FX11_made FX91_put (FX11_touch n) (FX11_store_0 n ) (FX11_store_93 n ) w0 w1 w3 w4 M).symm.trans hz)⟩
  rcases fe_mem_c hc with rfl | hc
  · obtain ⟨w0, m0, h⟩ := fe_lR_d h
    obtain ⟨w1, m1, h⟩ := fe_lL_d h
    obtain ⟨w3, m3, h⟩ := fe_lI_d h
    obtain ⟨rfl, hz⟩ := fe_t0_d h
    exact ⟨[(0, .ref w0), (1, .long w1), (3, .int w3)], (fe_cs m0 (fe_cs m1 (fe_cs m3 fe_nl))), Or.inr ((bX11_store_93 FX11_pageOf FX11_placeOf FJ5_min FX11_made FX91_put (FX11_touch n) (FX11_store_0 n ) (FX11_store_93 n ) w0 w1 w3 M).symm.trans hz)⟩
  exact fe_mem_0 hc
theorem vX11_store (n : Nat) : fe_SB (sX11_store FX11_pageOf FX11_placeOf FJ5_min FX11_made FX91_put (FX11_touch n)) := by
  refine ⟨?_, ?_, ?_, ?_⟩
  · intro i As M r h
    rcases fe_bc h with h | h
    · obtain ⟨v0, t0, rfl, g0⟩ := fe_tR_d h
      obtain ⟨v1, t1, rfl, g1⟩ := fe_tI_d g0
      obtain ⟨v2, t2, rfl, g2⟩ := fe_tI_d g1
      obtain ⟨v3, t3, rfl, g3⟩ := fe_tL_d g2
      obtain ⟨rfl, hz⟩ := fe_t0_d g3
      exact mX91_put v0 v1 v2 v3 M r hz
    rcases fe_bc h with h | h
    · obtain ⟨v0, t0, rfl, g0⟩ := fe_tR_d h
      obtain ⟨v1, t1, rfl, g1⟩ := fe_tL_d g0
      obtain ⟨v2, t2, rfl, g2⟩ := fe_tL_d g1
      obtain ⟨rfl, hz⟩ := fe_t0_d g2
      exact mX11_touch n v0 v1 v2 M r hz
    exact fe_no h
  · intro i As M r h
    rcases fe_bc h with h | h
    · obtain ⟨v0, t0, rfl, g0⟩ := fe_tL_d h
      obtain ⟨rfl, hz⟩ := fe_t0_d g0
      exact mX11_pageOf v0 M r hz
    rcases fe_bc h with h | h
    · obtain ⟨v0, t0, rfl, g0⟩ := fe_tL_d h
      obtain ⟨rfl, hz⟩ := fe_t0_d g0
      exact mX11_placeOf v0 M r hz
    rcases fe_bc h with h | h
    · obtain ⟨v0, t0, rfl, g0⟩ := fe_tI_d h
      obtain ⟨v1, t1, rfl, g1⟩ := fe_tI_d g0
      obtain ⟨rfl, hz⟩ := fe_t0_d g1
      exact mJ5_min v0 v1 M r hz
    exact fe_no h
  · intro i As M r h
    exact fe_no h
  · intro i As M r h
    rcases fe_bc h with h | h
    · obtain ⟨v0, t0, rfl, g0⟩ := fe_tR_d h
      obtain ⟨v1, t1, rfl, g1⟩ := fe_tI_d g0
      obtain ⟨rfl, hz⟩ := fe_t0_d g1
      exact mX11_made v0 v1 M r hz
    exact fe_no h
theorem eX11_store (g0 : Nat → Int64 → Int32 → Int64 → FM → Option (FM)) (g93 : Nat → Int64 → Int32 → FM → Option (FM)) (a0 : Nat) (a1 : Int64) (a3 : Int32) (a4 : Int64) (M : FM) : dX11_store g0 g93 0 [(0, .ref a0), (1, .long a1), (3, .int a3), (4, .long a4)] [] M = g0 a0 a1 a3 a4 M := by rfl
theorem mX11_store (n : Nat) (a0 : Nat) (a1 : Int64) (a3 : Int32) (a4 : Int64) (M : FM) (r : FM) (h : FX11_store n a0 a1 a3 a4 M = some r) : fm_nx M ≤ fm_nx r ∧ fm_ns M ≤ fm_ns r :=
  fe_mono (L0 := [(0, .ref a0), (1, .long a1), (3, .int a3), (4, .long a4)]) (vX11_store n) (by decide +kernel) (hX11_store n) (fe_kv_k r) 0 rfl ((eX11_store (FX11_store_0 n ) (FX11_store_93 n ) a0 a1 a3 a4 M).trans h)
theorem zX11_store {s0 : State} {H0 : Heap} {oa : Nat → Nat} {D : va_G} (K : fk s0 H0 oa D) (l : Launch) (n : Nat) (a0 : Nat) (a1 : Int64) (a3 : Int32) (a4 : Int64) (M : FM) (r : FM) (h : FX11_store n a0 a1 a3 a4 M = some r) : fs_Con (fk_E s0 H0 oa D) l 3 ⟨"BoardMachine$Memories$Ram", "store", "(JIJ)V"⟩ prog_82_method_8_code 9 (Option.none : Option Jvm.ClassFile.FieldType) [.ref a0, .long a1, .int a3, .long a4] M none r := by
  have o0 : fs_OS (sX11_store FX11_pageOf FX11_placeOf FJ5_min FX11_made FX91_put (FX11_touch n)) 0 1 (fs_Con (fk_E s0 H0 oa D) l 1 ⟨"BoardMachine$Memories$Ram", "pageOf", "(J)I"⟩ prog_82_method_3_code 2 (Option.some Jvm.ClassFile.FieldType.int)) := by
    intro As M r h
    obtain ⟨v0, t0, rfl, g0⟩ := fe_tL_d h
    obtain ⟨rfl, hz⟩ := fe_t0_d g0
    exact zX11_pageOf K l v0 M r hz
  have o1 : fs_OS (sX11_store FX11_pageOf FX11_placeOf FJ5_min FX11_made FX91_put (FX11_touch n)) 1 1 (fs_Con (fk_E s0 H0 oa D) l 1 ⟨"BoardMachine$Memories$Ram", "placeOf", "(J)I"⟩ prog_82_method_4_code 2 (Option.some Jvm.ClassFile.FieldType.int)) := by
    intro As M r h
    obtain ⟨v0, t0, rfl, g0⟩ := fe_tL_d h
    obtain ⟨rfl, hz⟩ := fe_t0_d g0
    exact zX11_placeOf K l v0 M r hz
  have o2 : fs_OS (sX11_store FX11_pageOf FX11_placeOf FJ5_min FX11_made FX91_put (FX11_touch n)) 2 1 (fs_cii fm_min) := by
    intro As M r h
    obtain ⟨v0, t0, rfl, g0⟩ := fe_tI_d h
    obtain ⟨v1, t1, rfl, g1⟩ := fe_tI_d g0
    obtain ⟨rfl, hz⟩ := fe_t0_d g1
    obtain rfl := zJ5_min _ _ _ _ hz
    exact ⟨v0, v1, rfl, rfl, rfl⟩
  have o3 : fs_OS (sX11_store FX11_pageOf FX11_placeOf FJ5_min FX11_made FX91_put (FX11_touch n)) 3 3 (fs_Con (fk_E s0 H0 oa D) l 2 ⟨"BoardMachine$Memories$Ram", "made", "(I)LBoardMachine$Memories$Page;"⟩ prog_82_method_5_code 2 (Option.some (Jvm.ClassFile.FieldType.object "BoardMachine$Memories$Page"))) := by
    intro As M r h
    obtain ⟨v0, t0, rfl, g0⟩ := fe_tR_d h
    obtain ⟨v1, t1, rfl, g1⟩ := fe_tI_d g0
    obtain ⟨rfl, hz⟩ := fe_t0_d g1
    exact zX11_made K l v0 v1 M r hz
  have o4 : fs_OS (sX11_store FX11_pageOf FX11_placeOf FJ5_min FX11_made FX91_put (FX11_touch n)) 4 0 (fs_Con (fk_E s0 H0 oa D) l 2 ⟨"BoardMachine$Memories$Page", "put", "(IIJ)V"⟩ prog_81_method_4_code 9 (Option.none : Option Jvm.ClassFile.FieldType)) := by
    intro As M r h
    obtain ⟨v0, t0, rfl, g0⟩ := fe_tR_d h
    obtain ⟨v1, t1, rfl, g1⟩ := fe_tI_d g0
    obtain ⟨v2, t2, rfl, g2⟩ := fe_tI_d g1
    obtain ⟨v3, t3, rfl, g3⟩ := fe_tL_d g2
    obtain ⟨rfl, hz⟩ := fe_t0_d g3
    exact zX91_put K l v0 v1 v2 v3 M r hz
  have o5 : fs_OS (sX11_store FX11_pageOf FX11_placeOf FJ5_min FX11_made FX91_put (FX11_touch n)) 5 0 (fs_Con (fk_E s0 H0 oa D) l 2 ⟨"BoardMachine$Memories$Ram", "touch", "(JJ)V"⟩ prog_82_method_7_code 9 (Option.none : Option Jvm.ClassFile.FieldType)) := by
    intro As M r h
    obtain ⟨v0, t0, rfl, g0⟩ := fe_tR_d h
    obtain ⟨v1, t1, rfl, g1⟩ := fe_tL_d g0
    obtain ⟨v2, t2, rfl, g2⟩ := fe_tL_d g1
    obtain ⟨rfl, hz⟩ := fe_t0_d g2
    exact zX11_touch K l n v0 v1 v2 M r hz
  refine fs_method (own := "BoardMachine$Memories$Ram") rfl (by decide) K.2.1 (by rw [fe_slen]; exact (Nat.le_of_ble_eq_true rfl)) (mX11_store n a0 a1 a3 a4 M r h) (hX11_store n) 0 rfl (L0 := [(0, .ref a0), (1, .long a1), (3, .int a3), (4, .long a4)]) (fun E => fe_args_e E [.ref a0, .long a1, .int a3, .long a4] 0) ((eX11_store (FX11_store_0 n ) (FX11_store_93 n ) a0 a1 a3 a4 M).trans h) (fe_kv_k r) (fun H hR => fs_nr_o (by decide) (by decide)) ?_
  intro p e s m args below meth c Q C hnm
  have hw : s0.WarmedH s.vm := C.2.2.2.2.1
  refine fe_all C fk_hwr cX11_store [1, 7, 19, 27, 36, 40, 61, 77, 81, 99] (by decide +kernel) (fe_fil (cps := [(1, 4, .invokestatic 5), (7, 10, .invokestatic 69), (19, 22, .invokestatic 137), (27, 30, .invokevirtual 212935753), (36, 39, .invokevirtual 285286472), (40, 43, .getfield 855937318), (61, 64, .invokevirtual 212935753), (77, 80, .invokevirtual 285286472), (81, 84, .getfield 855937318), (99, 102, .invokevirtual 348202057)]) (by decide +kernel) ?_)
  refine fs_c1 (fs_inv_static (pc := 1) (n := 5) C (fs_lk_static (idx := 71) (y := ⟨"BoardMachine$Memories$Ram", "pageOf", "(J)I"⟩) (bytes := prog_82_method_3_code) (maxL := 2) (rt := (Option.some Jvm.ClassFile.FieldType.int)) (d := 1) C (by decide +kernel) (kw K hw q2391) (kw K hw q321) (kw K hw q2390) (Or.inl (kw K hw q2389)) ⟨by decide, by decide⟩ rfl (Nat.le_of_ble_eq_true rfl) (Nat.le_of_ble_eq_true rfl)) fs_con_mono o0) ?_
  refine fs_c1 (fs_inv_static (pc := 7) (n := 69) C (fs_lk_static (idx := 61) (y := ⟨"BoardMachine$Memories$Ram", "placeOf", "(J)I"⟩) (bytes := prog_82_method_4_code) (maxL := 2) (rt := (Option.some Jvm.ClassFile.FieldType.int)) (d := 1) C (by decide +kernel) (kw K hw q2395) (kw K hw q321) (kw K hw q2394) (Or.inl (kw K hw q2393)) ⟨by decide, by decide⟩ rfl (Nat.le_of_ble_eq_true rfl) (Nat.le_of_ble_eq_true rfl)) fs_con_mono o1) ?_
  refine fs_c1 (fs_inv_static (pc := 19) (n := 137) C (fs_lk_mmin (idx := 65) C (by decide +kernel) (kw K hw q2399) (kw K hw q407) (kw K hw q2398) (kw K hw q2397) (Nat.le_of_ble_eq_true rfl) (Nat.le_of_ble_eq_true rfl)) fs_cii_mono o2) ?_
  refine fs_c1 (fs_inv_virtual (pc := 27) (n := 212935753) C (Nat.le_of_ble_eq_true rfl) (Nat.le_of_ble_eq_true rfl) (fs_lk_virtual (idx := 82) (y := ⟨"BoardMachine$Memories$Ram", "made", "(I)LBoardMachine$Memories$Page;"⟩) (bytes := prog_82_method_5_code) (maxL := 2) (rt := (Option.some (Jvm.ClassFile.FieldType.object "BoardMachine$Memories$Page"))) (d := 2) C (Nat.le_of_ble_eq_true rfl) (Nat.le_of_ble_eq_true rfl) (by decide +kernel) (kw K hw q2403) (kw K hw q321) (kw K hw q2402) (Or.inl (kw K hw q2400)) ⟨by decide, by decide⟩ rfl (Nat.le_of_ble_eq_true rfl) (Nat.le_of_ble_eq_true rfl) (fs_one (⟨_, rfl, kw K hw qs22⟩))) fs_con_mono o3) ?_
  refine fs_c1 (fs_inv_virtual (pc := 36) (n := 285286472) C (Nat.le_of_ble_eq_true rfl) (Nat.le_of_ble_eq_true rfl) (fs_lk_virtual (idx := 86) (y := ⟨"BoardMachine$Memories$Page", "put", "(IIJ)V"⟩) (bytes := prog_81_method_4_code) (maxL := 9) (rt := (Option.none : Option Jvm.ClassFile.FieldType)) (d := 2) C (Nat.le_of_ble_eq_true rfl) (Nat.le_of_ble_eq_true rfl) (by decide +kernel) (kw K hw q2416) (kw K hw q408) (kw K hw q2414) (Or.inl (kw K hw q2413)) ⟨by decide, by decide⟩ rfl (Nat.le_of_ble_eq_true rfl) (Nat.le_of_ble_eq_true rfl) (fs_one (⟨_, rfl, kw K hw q2415⟩))) fs_con_mono o4) ?_
  refine fs_c1 (fs_getf (pc := 40) (n := 855937318) (idx := 17) (ref := "BoardMachine$Memories$Ram") (O := "BoardMachine$Memories$Ram") (name := "writes") (desc := "[J") C (by decide +kernel) (Or.inl (kw K hw q692)) (fun _ h => h) (Nat.le_of_ble_eq_true rfl) (Nat.le_of_ble_eq_true rfl) (fs_one (⟨_, ff_73_204 s0 H0 oa D⟩))) ?_
  refine fs_c1 (fs_inv_virtual (pc := 61) (n := 212935753) C (Nat.le_of_ble_eq_true rfl) (Nat.le_of_ble_eq_true rfl) (fs_lk_virtual (idx := 82) (y := ⟨"BoardMachine$Memories$Ram", "made", "(I)LBoardMachine$Memories$Page;"⟩) (bytes := prog_82_method_5_code) (maxL := 2) (rt := (Option.some (Jvm.ClassFile.FieldType.object "BoardMachine$Memories$Page"))) (d := 2) C (Nat.le_of_ble_eq_true rfl) (Nat.le_of_ble_eq_true rfl) (by decide +kernel) (kw K hw q2403) (kw K hw q321) (kw K hw q2402) (Or.inl (kw K hw q2400)) ⟨by decide, by decide⟩ rfl (Nat.le_of_ble_eq_true rfl) (Nat.le_of_ble_eq_true rfl) (fs_one (⟨_, rfl, kw K hw qs22⟩))) fs_con_mono o3) ?_
  refine fs_c1 (fs_inv_virtual (pc := 77) (n := 285286472) C (Nat.le_of_ble_eq_true rfl) (Nat.le_of_ble_eq_true rfl) (fs_lk_virtual (idx := 86) (y := ⟨"BoardMachine$Memories$Page", "put", "(IIJ)V"⟩) (bytes := prog_81_method_4_code) (maxL := 9) (rt := (Option.none : Option Jvm.ClassFile.FieldType)) (d := 2) C (Nat.le_of_ble_eq_true rfl) (Nat.le_of_ble_eq_true rfl) (by decide +kernel) (kw K hw q2416) (kw K hw q408) (kw K hw q2414) (Or.inl (kw K hw q2413)) ⟨by decide, by decide⟩ rfl (Nat.le_of_ble_eq_true rfl) (Nat.le_of_ble_eq_true rfl) (fs_one (⟨_, rfl, kw K hw q2415⟩))) fs_con_mono o4) ?_
  refine fs_c1 (fs_getf (pc := 81) (n := 855937318) (idx := 17) (ref := "BoardMachine$Memories$Ram") (O := "BoardMachine$Memories$Ram") (name := "writes") (desc := "[J") C (by decide +kernel) (Or.inl (kw K hw q692)) (fun _ h => h) (Nat.le_of_ble_eq_true rfl) (Nat.le_of_ble_eq_true rfl) (fs_one (⟨_, ff_73_204 s0 H0 oa D⟩))) ?_
  refine fs_c1 (fs_inv_virtual (pc := 99) (n := 348202057) C (Nat.le_of_ble_eq_true rfl) (Nat.le_of_ble_eq_true rfl) (fs_lk_virtual (idx := 90) (y := ⟨"BoardMachine$Memories$Ram", "touch", "(JJ)V"⟩) (bytes := prog_82_method_7_code) (maxL := 9) (rt := (Option.none : Option Jvm.ClassFile.FieldType)) (d := 2) C (Nat.le_of_ble_eq_true rfl) (Nat.le_of_ble_eq_true rfl) (by decide +kernel) (kw K hw q2424) (kw K hw q321) (kw K hw q2423) (Or.inl (kw K hw q2421)) ⟨by decide, by decide⟩ rfl (Nat.le_of_ble_eq_true rfl) (Nat.le_of_ble_eq_true rfl) (fs_one (⟨_, rfl, kw K hw qs23⟩))) fs_con_mono o5) ?_
  exact fs_c0
theorem hX47_jump : fe_H (sX47_jump) cX47_jump [0] fe_kv [] 20 (fun _ => dX47_jump FX47_jump_0) := by
  intro j pc L st M r hc h
  rcases fe_mem_c hc with rfl | hc
  · obtain ⟨w0, m0, h⟩ := fe_lR_d h
    obtain ⟨w1, m1, h⟩ := fe_lL_d h
    obtain ⟨rfl, hz⟩ := fe_t0_d h
    exact ⟨[(0, .ref w0), (1, .long w1)], (fe_cs m0 (fe_cs m1 fe_nl)), Or.inr ((bX47_jump_0 FX47_jump_0 w0 w1 M).symm.trans hz)⟩
  exact fe_mem_0 hc
theorem vX47_jump : fe_SB (sX47_jump) := by
  refine ⟨?_, ?_, ?_, ?_⟩
  · intro i As M r h
    exact fe_no h
  · intro i As M r h
    exact fe_no h
  · intro i As M r h
    exact fe_no h
  · intro i As M r h
    exact fe_no h
theorem eX47_jump (g0 : Nat → Int64 → FM → Option (FM)) (a0 : Nat) (a1 : Int64) (M : FM) : dX47_jump g0 0 [(0, .ref a0), (1, .long a1)] [] M = g0 a0 a1 M := by rfl
theorem mX47_jump (a0 : Nat) (a1 : Int64) (M : FM) (r : FM) (h : FX47_jump a0 a1 M = some r) : fm_nx M ≤ fm_nx r ∧ fm_ns M ≤ fm_ns r :=
  fe_mono (L0 := [(0, .ref a0), (1, .long a1)]) (vX47_jump) (by decide +kernel) (hX47_jump) (fe_kv_k r) 0 rfl ((eX47_jump FX47_jump_0 a0 a1 M).trans h)
theorem zX47_jump {s0 : State} {H0 : Heap} {oa : Nat → Nat} {D : va_G} (K : fk s0 H0 oa D) (l : Launch) (a0 : Nat) (a1 : Int64) (M : FM) (r : FM) (h : FX47_jump a0 a1 M = some r) : fs_Con (fk_E s0 H0 oa D) l 1 ⟨"BoardMachine$Integers$IntegerUnit", "jump", "(J)V"⟩ prog_69_method_3_code 3 (Option.none : Option Jvm.ClassFile.FieldType) [.ref a0, .long a1] M none r := by
  refine fs_method (own := "BoardMachine$Integers$IntegerUnit") rfl (by decide) K.2.1 (by rw [fe_slen]; exact (Nat.le_of_ble_eq_true rfl)) (mX47_jump a0 a1 M r h) (hX47_jump) 0 rfl (L0 := [(0, .ref a0), (1, .long a1)]) (fun E => fe_args_e E [.ref a0, .long a1] 0) ((eX47_jump FX47_jump_0 a0 a1 M).trans h) (fe_kv_k r) (fun H hR => fs_nr_o (by decide) (by decide)) ?_
  intro p e s m args below meth c Q C hnm
  have hw : s0.WarmedH s.vm := C.2.2.2.2.1
  refine fe_all C fk_hwr cX47_jump [1, 5, 9, 14] (by decide +kernel) (fe_fil (cps := [(1, 4, .getfield 717484286), (5, 8, .jsr_w (-2)), (9, 12, .putfield 751042817), (14, 17, .putfield 730067198)]) (by decide +kernel) ?_)
  refine fs_c1 (fs_getf (pc := 1) (n := 717484286) (idx := 12) (ref := "BoardMachine$Integers$IntegerUnit") (O := "BoardMachine$Integers$IntegerUnit") (name := "registers") (desc := "LBoardMachine$Integers$Registers;") C (by decide +kernel) (Or.inl (kw K hw q1403)) (fun _ h => h) (Nat.le_of_ble_eq_true rfl) (Nat.le_of_ble_eq_true rfl) (fs_one (⟨_, ff_63_171 s0 H0 oa D⟩))) ?_
  refine fs_c1 (fs_ldcl (pc := 5) (idx := 44) (v := -2) C (by decide +kernel) (kw K hw q2439)) ?_
  refine fs_c1 (fs_putf (pc := 9) (n := 751042817) (idx := 46) (ref := "BoardMachine$Integers$Registers") (O := "BoardMachine$Integers$Registers") (name := "counter") (desc := "J") (fin := false) (ty := .long) C (by decide +kernel) (Or.inl ⟨rfl, Or.inr ⟨_, kF K hw q1292⟩⟩) (fun _ h => h) (Nat.le_of_ble_eq_true rfl) (Nat.le_of_ble_eq_true rfl) (Nat.le_of_ble_eq_true rfl) rfl rfl (by decide) (fs_one (⟨rfl, ff_64_179 s0 H0 oa D⟩))) ?_
  refine fs_c1 (fs_putf (pc := 14) (n := 730067198) (idx := 50) (ref := "BoardMachine$Integers$IntegerUnit") (O := "BoardMachine$Integers$IntegerUnit") (name := "underWay") (desc := "LBoardMachine$Integers$Decoded;") (fin := false) (ty := (.object "BoardMachine$Integers$Decoded")) C (by decide +kernel) (Or.inl ⟨rfl, Or.inl (kw K hw q1408)⟩) (fun _ h => h) (Nat.le_of_ble_eq_true rfl) (Nat.le_of_ble_eq_true rfl) (Nat.le_of_ble_eq_true rfl) rfl rfl (by decide) (fs_one (⟨rfl, ff_63_174 s0 H0 oa D⟩))) ?_
  exact fs_c0
