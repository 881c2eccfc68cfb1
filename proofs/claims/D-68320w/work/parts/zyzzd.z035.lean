/-! contracts of methods, printed by gen/snd.py -/
set_option maxRecDepth 100000
set_option maxHeartbeats 4000000
theorem hX33_complete : fe_H (sX33_complete FX33_look) cX33_complete [0, 48] fe_kv [] 38 (fun _ => dX33_complete FX33_complete_0 FX33_complete_48) := by
  intro j pc L st M r hc h
  rcases fe_mem_c hc with rfl | hc
  · obtain ⟨w0, m0, h⟩ := fe_lR_d h
    obtain ⟨w1, m1, h⟩ := fe_lI_d h
    obtain ⟨w2, m2, h⟩ := fe_lL_d h
    obtain ⟨rfl, hz⟩ := fe_t0_d h
    exact ⟨[(0, .ref w0), (1, .int w1), (2, .long w2)], (fe_cs m0 (fe_cs m1 (fe_cs m2 fe_nl))), Or.inr ((bX33_complete_0 FX33_look FX33_complete_0 FX33_complete_48 w0 w1 w2 M).symm.trans hz)⟩
  rcases fe_mem_c hc with rfl | hc
  · obtain ⟨rfl, hz⟩ := fe_t0_d h
    exact ⟨[], fe_nl, Or.inr ((bX33_complete_48 FX33_look FX33_complete_0 FX33_complete_48 M).symm.trans hz)⟩
  exact fe_mem_0 hc
theorem vX33_complete : fe_SB (sX33_complete FX33_look) := by
  refine ⟨?_, ?_, ?_, ?_⟩
  · intro i As M r h
    rcases fe_bc h with h | h
    · obtain ⟨v0, t0, rfl, g0⟩ := fe_tR_d h
      obtain ⟨rfl, hz⟩ := fe_t0_d g0
      exact mX33_look v0 M r hz
    exact fe_no h
  · intro i As M r h
    exact fe_no h
  · intro i As M r h
    exact fe_no h
  · intro i As M r h
    exact fe_no h
theorem eX33_complete (g0 : Nat → Int32 → Int64 → FM → Option (FM)) (g48 : FM → Option (FM)) (a0 : Nat) (a1 : Int32) (a2 : Int64) (M : FM) : dX33_complete g0 g48 0 [(0, .ref a0), (1, .int a1), (2, .long a2)] [] M = g0 a0 a1 a2 M := by rfl
theorem mX33_complete (a0 : Nat) (a1 : Int32) (a2 : Int64) (M : FM) (r : FM) (h : FX33_complete a0 a1 a2 M = some r) : fm_nx M ≤ fm_nx r ∧ fm_ns M ≤ fm_ns r :=
  fe_mono (L0 := [(0, .ref a0), (1, .int a1), (2, .long a2)]) (vX33_complete) (by decide +kernel) (hX33_complete) (fe_kv_k r) 0 rfl ((eX33_complete FX33_complete_0 FX33_complete_48 a0 a1 a2 M).trans h)
theorem zX33_complete {s0 : State} {H0 : Heap} {oa : Nat → Nat} {D : va_G} (K : fk s0 H0 oa D) (l : Launch) (a0 : Nat) (a1 : Int32) (a2 : Int64) (M : FM) (r : FM) (h : FX33_complete a0 a1 a2 M = some r) : fs_Con (fk_E s0 H0 oa D) l 2 ⟨"BoardMachine$Signals$Controller", "complete", "(IJ)V"⟩ prog_89_method_6_code 4 (Option.none : Option Jvm.ClassFile.FieldType) [.ref a0, .int a1, .long a2] M none r := by
  have o0 : fs_OS (sX33_complete FX33_look) 0 0 (fs_Con (fk_E s0 H0 oa D) l 1 ⟨"BoardMachine$Signals$Controller", "look", "()V"⟩ prog_89_method_2_code 1 (Option.none : Option Jvm.ClassFile.FieldType)) := by
    intro As M r h
    obtain ⟨v0, t0, rfl, g0⟩ := fe_tR_d h
    obtain ⟨rfl, hz⟩ := fe_t0_d g0
    exact zX33_look K l v0 M r hz
  refine fs_method (own := "BoardMachine$Signals$Controller") rfl (by decide) K.2.1 (by rw [fe_slen]; exact (Nat.le_of_ble_eq_true rfl)) (mX33_complete a0 a1 a2 M r h) (hX33_complete) 0 rfl (L0 := [(0, .ref a0), (1, .int a1), (2, .long a2)]) (fun E => fe_args_e E [.ref a0, .int a1, .long a2] 0) ((eX33_complete FX33_complete_0 FX33_complete_48 a0 a1 a2 M).trans h) (fe_kv_k r) (fun H hR => fs_nr_o (by decide) (by decide)) ?_
  intro p e s m args below meth c Q C hnm
  have hw : s0.WarmedH s.vm := C.2.2.2.2.1
  refine fe_all C fk_hwr cX33_complete [7, 15, 31, 41, 45] (by decide +kernel) (fe_fil (cps := [(7, 10, .jsr_w (32)), (15, 18, .getfield 944034102), (31, 34, .getfield 960811316), (41, 44, .putfield 960811316), (45, 48, .invokevirtual 4273229)]) (by decide +kernel) ?_)
  refine fs_c1 (fs_ldcl (pc := 7) (idx := 41) (v := 32) C (by decide +kernel) (kw K hw q3691)) ?_
  refine fs_c1 (fs_getf (pc := 15) (n := 944034102) (idx := 15) (ref := "BoardMachine$Signals$Controller") (O := "BoardMachine$Signals$Controller") (name := "enables") (desc := "[I") C (by decide +kernel) (Or.inl (kw K hw q996)) (fun _ h => h) (Nat.le_of_ble_eq_true rfl) (Nat.le_of_ble_eq_true rfl) (fs_one (⟨_, ff_77_225 s0 H0 oa D⟩))) ?_
  refine fs_c1 (fs_getf (pc := 31) (n := 960811316) (idx := 31) (ref := "BoardMachine$Signals$Controller") (O := "BoardMachine$Signals$Controller") (name := "served") (desc := "I") C (by decide +kernel) (Or.inl (kw K hw q1000)) (fun _ h => h) (Nat.le_of_ble_eq_true rfl) (Nat.le_of_ble_eq_true rfl) (fs_one (⟨_, ff_77_229 s0 H0 oa D⟩))) ?_
  refine fs_c1 (fs_putf (pc := 41) (n := 960811316) (idx := 31) (ref := "BoardMachine$Signals$Controller") (O := "BoardMachine$Signals$Controller") (name := "served") (desc := "I") (fin := false) (ty := .int) C (by decide +kernel) (Or.inl ⟨rfl, Or.inl (kw K hw q1000)⟩) (fun _ h => h) (Nat.le_of_ble_eq_true rfl) (Nat.le_of_ble_eq_true rfl) (Nat.le_of_ble_eq_true rfl) rfl rfl (by decide) (fs_one (⟨rfl, ff_77_229 s0 H0 oa D⟩))) ?_
  refine fs_c1 (fs_inv_virtual (pc := 45) (n := 4273229) C (Nat.le_of_ble_eq_true rfl) (Nat.le_of_ble_eq_true rfl) (fs_lk_virtual (idx := 34) (y := ⟨"BoardMachine$Signals$Controller", "look", "()V"⟩) (bytes := prog_89_method_2_code) (maxL := 1) (rt := (Option.none : Option Jvm.ClassFile.FieldType)) (d := 1) C (Nat.le_of_ble_eq_true rfl) (Nat.le_of_ble_eq_true rfl) (by decide +kernel) (kw K hw q3629) (kw K hw q344) (kw K hw q3628) (Or.inl (kw K hw q3626)) ⟨by decide, by decide⟩ rfl (Nat.le_of_ble_eq_true rfl) (Nat.le_of_ble_eq_true rfl) (fs_one (⟨_, rfl, kw K hw qs78⟩))) fs_con_mono o0) ?_
  exact fs_c0
theorem hX33_write : fe_H (sX33_write FX33_contextAt FX33_complete) cX33_write [0, 15, 88, 147] fe_kv [] 87 (fun _ => dX33_write FX33_write_0 FX33_write_15 FX33_write_88 FX33_write_147) := by
  intro j pc L st M r hc h
  rcases fe_mem_c hc with rfl | hc
  · obtain ⟨w0, m0, h⟩ := fe_lR_d h
    obtain ⟨w1, m1, h⟩ := fe_lL_d h
    obtain ⟨w3, m3, h⟩ := fe_lI_d h
    obtain ⟨w4, m4, h⟩ := fe_lL_d h
    obtain ⟨rfl, hz⟩ := fe_t0_d h
    exact ⟨[(0, .ref w0), (1, .long w1), (3, .int w3), (4, .long w4)], (fe_cs m0 (fe_cs m1 (fe_cs m3 (fe_cs m4 fe_nl)))), Or.inr ((bX33_write_0 FX33_contextAt FX33_complete FX33_write_0 FX33_write_15 FX33_write_88 FX33_write_147 w0 w1 w3 w4 M).symm.trans hz)⟩
  rcases fe_mem_c hc with rfl | hc
  · obtain ⟨rfl, hz⟩ := fe_t0_d h
    exact ⟨[], fe_nl, Or.inr ((bX33_write_15 FX33_contextAt FX33_complete FX33_write_0 FX33_write_15 FX33_write_88 FX33_write_147 M).symm.trans hz)⟩
  rcases fe_mem_c hc with rfl | hc
  · obtain ⟨w0, m0, h⟩ := fe_lR_d h
    obtain ⟨w4, m4, h⟩ := fe_lL_d h
    obtain ⟨w6, m6, h⟩ := fe_lI_d h
    obtain ⟨w7, m7, h⟩ := fe_lI_d h
    obtain ⟨w8, m8, h⟩ := fe_lI_d h
    obtain ⟨rfl, hz⟩ := fe_t0_d h
    exact ⟨[(0, .ref w0), (4, .long w4), (6, .int w6), (7, .int w7), (8, .int w8)], (fe_cs m0 (fe_cs m4 (fe_cs m6 (fe_cs m7 (fe_cs m8 fe_nl))))), Or.inr ((bX33_write_88 FX33_contextAt FX33_complete FX33_write_0 FX33_write_15 FX33_write_88 FX33_write_147 w0 w4 w6 w7 w8 M).symm.trans hz)⟩
  rcases fe_mem_c hc with rfl | hc
  · obtain ⟨rfl, hz⟩ := fe_t0_d h
    exact ⟨[], fe_nl, Or.inr ((bX33_write_147 FX33_contextAt FX33_complete FX33_write_0 FX33_write_15 FX33_write_88 FX33_write_147 M).symm.trans hz)⟩
  exact fe_mem_0 hc
theorem vX33_write : fe_SB (sX33_write FX33_contextAt FX33_complete) := by
  refine ⟨?_, ?_, ?_, ?_⟩
  · intro i As M r h
    rcases fe_bc h with h | h
    · obtain ⟨v0, t0, rfl, g0⟩ := fe_tR_d h
      obtain ⟨v1, t1, rfl, g1⟩ := fe_tI_d g0
      obtain ⟨v2, t2, rfl, g2⟩ := fe_tL_d g1
      obtain ⟨rfl, hz⟩ := fe_t0_d g2
      exact mX33_complete v0 v1 v2 M r hz
    exact fe_no h
  · intro i As M r h
    rcases fe_bc h with h | h
    · obtain ⟨v0, t0, rfl, g0⟩ := fe_tR_d h
      obtain ⟨v1, t1, rfl, g1⟩ := fe_tL_d g0
      obtain ⟨v2, t2, rfl, g2⟩ := fe_tI_d g1
      obtain ⟨v3, t3, rfl, g3⟩ := fe_tI_d g2
      obtain ⟨v4, t4, rfl, g4⟩ := fe_tI_d g3
      obtain ⟨rfl, hz⟩ := fe_t0_d g4
      exact mX33_contextAt v0 v1 v2 v3 v4 M r hz
    exact fe_no h
  · intro i As M r h
    exact fe_no h
  · intro i As M r h
    exact fe_no h
theorem eX33_write (g0 : Nat → Int64 → Int32 → Int64 → FM → Option (FM)) (g15 : FM → Option (FM)) (g88 : Nat → Int64 → Int32 → Int32 → Int32 → FM → Option (FM)) (g147 : FM → Option (FM)) (a0 : Nat) (a1 : Int64) (a3 : Int32) (a4 : Int64) (M : FM) : dX33_write g0 g15 g88 g147 0 [(0, .ref a0), (1, .long a1), (3, .int a3), (4, .long a4)] [] M = g0 a0 a1 a3 a4 M := by rfl
theorem mX33_write (a0 : Nat) (a1 : Int64) (a3 : Int32) (a4 : Int64) (M : FM) (r : FM) (h : FX33_write a0 a1 a3 a4 M = some r) : fm_nx M ≤ fm_nx r ∧ fm_ns M ≤ fm_ns r :=
  fe_mono (L0 := [(0, .ref a0), (1, .long a1), (3, .int a3), (4, .long a4)]) (vX33_write) (by decide +kernel) (hX33_write) (fe_kv_k r) 0 rfl ((eX33_write FX33_write_0 FX33_write_15 FX33_write_88 FX33_write_147 a0 a1 a3 a4 M).trans h)
theorem zX33_write {s0 : State} {H0 : Heap} {oa : Nat → Nat} {D : va_G} (K : fk s0 H0 oa D) (l : Launch) (a0 : Nat) (a1 : Int64) (a3 : Int32) (a4 : Int64) (M : FM) (r : FM) (h : FX33_write a0 a1 a3 a4 M = some r) : fs_Con (fk_E s0 H0 oa D) l 3 ⟨"BoardMachine$Signals$Controller", "write", "(JIJ)V"⟩ prog_89_method_9_code 9 (Option.none : Option Jvm.ClassFile.FieldType) [.ref a0, .long a1, .int a3, .long a4] M none r := by
  have o0 : fs_OS (sX33_write FX33_contextAt FX33_complete) 0 1 (fs_Con (fk_E s0 H0 oa D) l 1 ⟨"BoardMachine$Signals$Controller", "contextAt", "(JIII)I"⟩ prog_89_method_7_code 9 (Option.some Jvm.ClassFile.FieldType.int)) := by
    intro As M r h
    obtain ⟨v0, t0, rfl, g0⟩ := fe_tR_d h
    obtain ⟨v1, t1, rfl, g1⟩ := fe_tL_d g0
    obtain ⟨v2, t2, rfl, g2⟩ := fe_tI_d g1
    obtain ⟨v3, t3, rfl, g3⟩ := fe_tI_d g2
    obtain ⟨v4, t4, rfl, g4⟩ := fe_tI_d g3
    obtain ⟨rfl, hz⟩ := fe_t0_d g4
    exact zX33_contextAt K l v0 v1 v2 v3 v4 M r hz
  have o1 : fs_OS (sX33_write FX33_contextAt FX33_complete) 1 0 (fs_Con (fk_E s0 H0 oa D) l 2 ⟨"BoardMachine$Signals$Controller", "complete", "(IJ)V"⟩ prog_89_method_6_code 4 (Option.none : Option Jvm.ClassFile.FieldType)) := by
    intro As M r h
    obtain ⟨v0, t0, rfl, g0⟩ := fe_tR_d h
    obtain ⟨v1, t1, rfl, g1⟩ := fe_tI_d g0
    obtain ⟨v2, t2, rfl, g2⟩ := fe_tL_d g1
    obtain ⟨rfl, hz⟩ := fe_t0_d g2
    exact zX33_complete K l v0 v1 v2 M r hz
  refine fs_method (own := "BoardMachine$Signals$Controller") rfl (by decide) K.2.1 (by rw [fe_slen]; exact (Nat.le_of_ble_eq_true rfl)) (mX33_write a0 a1 a3 a4 M r h) (hX33_write) 0 rfl (L0 := [(0, .ref a0), (1, .long a1), (3, .int a3), (4, .long a4)]) (fun E => fe_args_e E [.ref a0, .long a1, .int a3, .long a4] 0) ((eX33_write FX33_write_0 FX33_write_15 FX33_write_88 FX33_write_147 a0 a1 a3 a4 M).trans h) (fe_kv_k r) (fun H hR => fs_nr_o (by decide) (by decide)) ?_
  intro p e s m args below meth c Q C hnm
  have hw : s0.WarmedH s.vm := C.2.2.2.2.1
  refine fe_all C fk_hwr cX33_write [6, 25, 32, 38, 45, 51, 63, 71, 94, 115, 140, 144] (by decide +kernel) (fe_fil (cps := [(6, 9, .jsr_w (3)), (25, 28, .invokevirtual 22099021), (32, 34, .iconst (2097152)), (38, 41, .invokevirtual 22099021), (45, 47, .iconst (2097152)), (51, 54, .invokevirtual 22099021), (63, 66, .jsr_w (128)), (71, 74, .getfield 939839798), (94, 97, .getfield 944034102), (115, 118, .getfield 948228406), (140, 143, .jsr_w (4294967295)), (144, 147, .invokevirtual 79770701)]) (by decide +kernel) ?_)
  refine fs_c1 (fs_ldcl (pc := 6) (idx := 43) (v := 3) C (by decide +kernel) (kw K hw q3548)) ?_
  refine fs_c1 (fs_inv_virtual (pc := 25) (n := 22099021) C (Nat.le_of_ble_eq_true rfl) (Nat.le_of_ble_eq_true rfl) (fs_lk_virtual (idx := 45) (y := ⟨"BoardMachine$Signals$Controller", "contextAt", "(JIII)I"⟩) (bytes := prog_89_method_7_code) (maxL := 9) (rt := (Option.some Jvm.ClassFile.FieldType.int)) (d := 1) C (Nat.le_of_ble_eq_true rfl) (Nat.le_of_ble_eq_true rfl) (by decide +kernel) (kw K hw q3552) (kw K hw q344) (kw K hw q3551) (Or.inl (kw K hw q3549)) ⟨by decide, by decide⟩ rfl (Nat.le_of_ble_eq_true rfl) (Nat.le_of_ble_eq_true rfl) (fs_one (⟨_, rfl, kw K hw qs67⟩))) fs_con_mono o0) ?_
  refine fs_c1 (fs_ldci (pc := 32) (idx := 49) (v := 2097152) C (by decide +kernel) (kw K hw q3553)) ?_
  refine fs_c1 (fs_inv_virtual (pc := 38) (n := 22099021) C (Nat.le_of_ble_eq_true rfl) (Nat.le_of_ble_eq_true rfl) (fs_lk_virtual (idx := 45) (y := ⟨"BoardMachine$Signals$Controller", "contextAt", "(JIII)I"⟩) (bytes := prog_89_method_7_code) (maxL := 9) (rt := (Option.some Jvm.ClassFile.FieldType.int)) (d := 1) C (Nat.le_of_ble_eq_true rfl) (Nat.le_of_ble_eq_true rfl) (by decide +kernel) (kw K hw q3552) (kw K hw q344) (kw K hw q3551) (Or.inl (kw K hw q3549)) ⟨by decide, by decide⟩ rfl (Nat.le_of_ble_eq_true rfl) (Nat.le_of_ble_eq_true rfl) (fs_one (⟨_, rfl, kw K hw qs67⟩))) fs_con_mono o0) ?_
  refine fs_c1 (fs_ldci (pc := 45) (idx := 49) (v := 2097152) C (by decide +kernel) (kw K hw q3553)) ?_
  refine fs_c1 (fs_inv_virtual (pc := 51) (n := 22099021) C (Nat.le_of_ble_eq_true rfl) (Nat.le_of_ble_eq_true rfl) (fs_lk_virtual (idx := 45) (y := ⟨"BoardMachine$Signals$Controller", "contextAt", "(JIII)I"⟩) (bytes := prog_89_method_7_code) (maxL := 9) (rt := (Option.some Jvm.ClassFile.FieldType.int)) (d := 1) C (Nat.le_of_ble_eq_true rfl) (Nat.le_of_ble_eq_true rfl) (by decide +kernel) (kw K hw q3552) (kw K hw q344) (kw K hw q3551) (Or.inl (kw K hw q3549)) ⟨by decide, by decide⟩ rfl (Nat.le_of_ble_eq_true rfl) (Nat.le_of_ble_eq_true rfl) (fs_one (⟨_, rfl, kw K hw qs67⟩))) fs_con_mono o0) ?_
  refine fs_c1 (fs_ldcl (pc := 63) (idx := 50) (v := 128) C (by decide +kernel) (kw K hw q3554)) ?_
  refine fs_c1 (fs_getf (pc := 71) (n := 939839798) (idx := 9) (ref := "BoardMachine$Signals$Controller") (O := "BoardMachine$Signals$Controller") (name := "priorities") (desc := "[I") C (by decide +kernel) (Or.inl (kw K hw q995)) (fun _ h => h) (Nat.le_of_ble_eq_true rfl) (Nat.le_of_ble_eq_true rfl) (fs_one (⟨_, ff_77_224 s0 H0 oa D⟩))) ?_
  refine fs_c1 (fs_getf (pc := 94) (n := 944034102) (idx := 15) (ref := "BoardMachine$Signals$Controller") (O := "BoardMachine$Signals$Controller") (name := "enables") (desc := "[I") C (by decide +kernel) (Or.inl (kw K hw q996)) (fun _ h => h) (Nat.le_of_ble_eq_true rfl) (Nat.le_of_ble_eq_true rfl) (fs_one (⟨_, ff_77_225 s0 H0 oa D⟩))) ?_
  refine fs_c1 (fs_getf (pc := 115) (n := 948228406) (idx := 18) (ref := "BoardMachine$Signals$Controller") (O := "BoardMachine$Signals$Controller") (name := "thresholds") (desc := "[I") C (by decide +kernel) (Or.inl (kw K hw q997)) (fun _ h => h) (Nat.le_of_ble_eq_true rfl) (Nat.le_of_ble_eq_true rfl) (fs_one (⟨_, ff_77_226 s0 H0 oa D⟩))) ?_
  refine fs_c1 (fs_ldcl (pc := 140) (idx := 54) (v := 4294967295) C (by decide +kernel) (kw K hw q3556)) ?_
  refine fs_c1 (fs_inv_virtual (pc := 144) (n := 79770701) C (Nat.le_of_ble_eq_true rfl) (Nat.le_of_ble_eq_true rfl) (fs_lk_virtual (idx := 60) (y := ⟨"BoardMachine$Signals$Controller", "complete", "(IJ)V"⟩) (bytes := prog_89_method_6_code) (maxL := 4) (rt := (Option.none : Option Jvm.ClassFile.FieldType)) (d := 2) C (Nat.le_of_ble_eq_true rfl) (Nat.le_of_ble_eq_true rfl) (by decide +kernel) (kw K hw q3690) (kw K hw q344) (kw K hw q3689) (Or.inl (kw K hw q3687)) ⟨by decide, by decide⟩ rfl (Nat.le_of_ble_eq_true rfl) (Nat.le_of_ble_eq_true rfl) (fs_one (⟨_, rfl, kw K hw qs80⟩))) fs_con_mono o1) ?_
  exact fs_c0
theorem hX31_room : fe_H (sX31_room) cX31_room [0, 13] fe_ki [] 20 (fun _ => dX31_room FX31_room_0 FX31_room_13) := by
  intro j pc L st M r hc h
  rcases fe_mem_c hc with rfl | hc
  · obtain ⟨w0, m0, h⟩ := fe_lR_d h
    obtain ⟨rfl, hz⟩ := fe_t0_d h
    exact ⟨[(0, .ref w0)], (fe_cs m0 fe_nl), Or.inr ((bX31_room_0 FX31_room_0 FX31_room_13 w0 M).symm.trans hz)⟩
  rcases fe_mem_c hc with rfl | hc
  · obtain ⟨w0, m0, h⟩ := fe_lR_d h
    obtain ⟨s0, t0, rfl, g0⟩ := fe_tI_d h
    obtain ⟨rfl, hz⟩ := fe_t0_d g0
    exact ⟨[(0, .ref w0)], (fe_cs m0 fe_nl), Or.inr ((bX31_room_13 FX31_room_0 FX31_room_13 w0 s0 M).symm.trans hz)⟩
  exact fe_mem_0 hc
theorem vX31_room : fe_SB (sX31_room) := by
  refine ⟨?_, ?_, ?_, ?_⟩
  · intro i As M r h
    exact fe_no h
  · intro i As M r h
    exact fe_no h
  · intro i As M r h
    exact fe_no h
  · intro i As M r h
    exact fe_no h
theorem eX31_room (g0 : Nat → FM → Option (Int32 × FM)) (g13 : Nat → Int32 → FM → Option (Int32 × FM)) (a0 : Nat) (M : FM) : dX31_room g0 g13 0 [(0, .ref a0)] [] M = g0 a0 M := by rfl
theorem mX31_room (a0 : Nat) (M : FM) (r : Int32 × FM) (h : FX31_room a0 M = some r) : fm_nx M ≤ fm_nx r.2 ∧ fm_ns M ≤ fm_ns r.2 :=
  fe_mono (L0 := [(0, .ref a0)]) (vX31_room) (by decide +kernel) (hX31_room) (fe_ki_k r) 0 rfl ((eX31_room FX31_room_0 FX31_room_13 a0 M).trans h)
theorem zX31_room {s0 : State} {H0 : Heap} {oa : Nat → Nat} {D : va_G} (K : fk s0 H0 oa D) (l : Launch) (a0 : Nat) (M : FM) (r : Int32 × FM) (h : FX31_room a0 M = some r) : fs_Con (fk_E s0 H0 oa D) l 1 ⟨"BoardMachine$Signals$Serial", "room", "()I"⟩ prog_91_method_2_code 1 (Option.some Jvm.ClassFile.FieldType.int) [.ref a0] M (some (.int r.1)) r.2 := by
  refine fs_method (own := "BoardMachine$Signals$Serial") rfl (by decide) K.2.1 (by rw [fe_slen]; exact (Nat.le_of_ble_eq_true rfl)) (mX31_room a0 M r h) (hX31_room) 0 rfl (L0 := [(0, .ref a0)]) (fun E => fe_args_e E [.ref a0] 0) ((eX31_room FX31_room_0 FX31_room_13 a0 M).trans h) (fe_ki_k r) (fun H hR => fs_nr_o (by decide) (by decide)) ?_
  intro p e s m args below meth c Q C hnm
  have hw : s0.WarmedH s.vm := C.2.2.2.2.1
  refine fe_all C fk_hwr cX31_room [1, 14] (by decide +kernel) (fe_fil (cps := [(1, 4, .getfield 990175547), (14, 17, .getfield 973398328)]) (by decide +kernel) ?_)
  refine fs_c1 (fs_getf (pc := 1) (n := 990175547) (idx := 22) (ref := "BoardMachine$Signals$Serial") (O := "BoardMachine$Signals$Serial") (name := "queued") (desc := "Z") C (by decide +kernel) (Or.inl (kw K hw q944)) (fun _ h => h) (Nat.le_of_ble_eq_true rfl) (Nat.le_of_ble_eq_true rfl) (fs_one (⟨_, ff_78_236 s0 H0 oa D⟩))) ?_
  refine fs_c1 (fs_getf (pc := 14) (n := 973398328) (idx := 26) (ref := "BoardMachine$Signals$Serial") (O := "BoardMachine$Signals$Serial") (name := "count") (desc := "I") C (by decide +kernel) (Or.inl (kw K hw q939)) (fun _ h => h) (Nat.le_of_ble_eq_true rfl) (Nat.le_of_ble_eq_true rfl) (fs_one (⟨_, ff_78_232 s0 H0 oa D⟩))) ?_
  exact fs_c0
theorem hX31_come : fe_H (sX31_come FX31_room) cX31_come [0, 12, 57] fe_ki [] 39 (fun _ => dX31_come FX31_come_0 FX31_come_12 FX31_come_57) := by
  intro j pc L st M r hc h
  rcases fe_mem_c hc with rfl | hc
  · obtain ⟨w0, m0, h⟩ := fe_lR_d h
    obtain ⟨w1, m1, h⟩ := fe_lI_d h
    obtain ⟨rfl, hz⟩ := fe_t0_d h
    exact ⟨[(0, .ref w0), (1, .int w1)], (fe_cs m0 (fe_cs m1 fe_nl)), Or.inr ((bX31_come_0 FX31_room FX31_come_0 FX31_come_12 FX31_come_57 w0 w1 M).symm.trans hz)⟩
  rcases fe_mem_c hc with rfl | hc
  · obtain ⟨w0, m0, h⟩ := fe_lR_d h
    obtain ⟨w1, m1, h⟩ := fe_lI_d h
    obtain ⟨s0, t0, rfl, g0⟩ := fe_tI_d h
    obtain ⟨rfl, hz⟩ := fe_t0_d g0
    exact ⟨[(0, .ref w0), (1, .int w1)], (fe_cs m0 (fe_cs m1 fe_nl)), Or.inr ((bX31_come_12 FX31_room FX31_come_0 FX31_come_12 FX31_come_57 w0 w1 s0 M).symm.trans hz)⟩
  rcases fe_mem_c hc with rfl | hc
  · obtain ⟨w2, m2, h⟩ := fe_lI_d h
    obtain ⟨rfl, hz⟩ := fe_t0_d h
    exact ⟨[(2, .int w2)], (fe_cs m2 fe_nl), Or.inr ((bX31_come_57 FX31_room FX31_come_0 FX31_come_12 FX31_come_57 w2 M).symm.trans hz)⟩
  exact fe_mem_0 hc
theorem vX31_come : fe_SB (sX31_come FX31_room) := by
  refine ⟨?_, ?_, ?_, ?_⟩
  · intro i As M r h
    exact fe_no h
  · intro i As M r h
    rcases fe_bc h with h | h
    · obtain ⟨v0, t0, rfl, g0⟩ := fe_tR_d h
      obtain ⟨rfl, hz⟩ := fe_t0_d g0
      exact mX31_room v0 M r hz
    exact fe_no h
  · intro i As M r h
    exact fe_no h
  · intro i As M r h
    exact fe_no h
theorem eX31_come (g0 : Nat → Int32 → FM → Option (Int32 × FM)) (g12 : Nat → Int32 → Int32 → FM → Option (Int32 × FM)) (g57 : Int32 → FM → Option (Int32 × FM)) (a0 : Nat) (a1 : Int32) (M : FM) : dX31_come g0 g12 g57 0 [(0, .ref a0), (1, .int a1)] [] M = g0 a0 a1 M := by rfl
theorem mX31_come (a0 : Nat) (a1 : Int32) (M : FM) (r : Int32 × FM) (h : FX31_come a0 a1 M = some r) : fm_nx M ≤ fm_nx r.2 ∧ fm_ns M ≤ fm_ns r.2 :=
  fe_mono (L0 := [(0, .ref a0), (1, .int a1)]) (vX31_come) (by decide +kernel) (hX31_come) (fe_ki_k r) 0 rfl ((eX31_come FX31_come_0 FX31_come_12 FX31_come_57 a0 a1 M).trans h)
theorem zX31_come {s0 : State} {H0 : Heap} {oa : Nat → Nat} {D : va_G} (K : fk s0 H0 oa D) (l : Launch) (a0 : Nat) (a1 : Int32) (M : FM) (r : Int32 × FM) (h : FX31_come a0 a1 M = some r) : fs_Con (fk_E s0 H0 oa D) l 2 ⟨"BoardMachine$Signals$Serial", "come", "(I)Z"⟩ prog_91_method_3_code 3 (Option.some Jvm.ClassFile.FieldType.boolean) [.ref a0, .int a1] M (some (.int r.1)) r.2 := by
  have o0 : fs_OS (sX31_come FX31_room) 0 1 (fs_Con (fk_E s0 H0 oa D) l 1 ⟨"BoardMachine$Signals$Serial", "room", "()I"⟩ prog_91_method_2_code 1 (Option.some Jvm.ClassFile.FieldType.int)) := by
    intro As M r h
    obtain ⟨v0, t0, rfl, g0⟩ := fe_tR_d h
    obtain ⟨rfl, hz⟩ := fe_t0_d g0
    exact zX31_room K l v0 M r hz
  refine fs_method (own := "BoardMachine$Signals$Serial") rfl (by decide) K.2.1 (by rw [fe_slen]; exact (Nat.le_of_ble_eq_true rfl)) (mX31_come a0 a1 M r h) (hX31_come) 0 rfl (L0 := [(0, .ref a0), (1, .int a1)]) (fun E => fe_args_e E [.ref a0, .int a1] 0) ((eX31_come FX31_come_0 FX31_come_12 FX31_come_57 a0 a1 M).trans h) (fe_ki_k r) (fun H hR => fs_nr_o (by decide) (by decide)) ?_
  intro p e s m args below meth c Q C hnm
  have hw : s0.WarmedH s.vm := C.2.2.2.2.1
  refine fe_all C fk_hwr cX31_come [1, 18, 22, 26, 41, 46, 54] (by decide +kernel) (fe_fil (cps := [(1, 4, .invokevirtual 5322830), (18, 21, .getfield 965009722), (22, 25, .getfield 969204024), (26, 29, .getfield 973398328), (41, 44, .getfield 973398328), (46, 49, .putfield 973398328), (54, 57, .putfield 994369851)]) (by decide +kernel) ?_)
  refine fs_c1 (fs_inv_virtual (pc := 1) (n := 5322830) C (Nat.le_of_ble_eq_true rfl) (Nat.le_of_ble_eq_true rfl) (fs_lk_virtual (idx := 30) (y := ⟨"BoardMachine$Signals$Serial", "room", "()I"⟩) (bytes := prog_91_method_2_code) (maxL := 1) (rt := (Option.some Jvm.ClassFile.FieldType.int)) (d := 1) C (Nat.le_of_ble_eq_true rfl) (Nat.le_of_ble_eq_true rfl) (by decide +kernel) (kw K hw q3708) (kw K hw q342) (kw K hw q3706) (Or.inl (kw K hw q3705)) ⟨by decide, by decide⟩ rfl (Nat.le_of_ble_eq_true rfl) (Nat.le_of_ble_eq_true rfl) (fs_one (⟨_, rfl, kw K hw q3707⟩))) fs_con_mono o0) ?_
  refine fs_c1 (fs_getf (pc := 18) (n := 965009722) (idx := 9) (ref := "BoardMachine$Signals$Serial") (O := "BoardMachine$Signals$Serial") (name := "in") (desc := "[I") C (by decide +kernel) (Or.inl (kw K hw q937)) (fun _ h => h) (Nat.le_of_ble_eq_true rfl) (Nat.le_of_ble_eq_true rfl) (fs_one (⟨_, ff_78_230 s0 H0 oa D⟩))) ?_
  refine fs_c1 (fs_getf (pc := 22) (n := 969204024) (idx := 34) (ref := "BoardMachine$Signals$Serial") (O := "BoardMachine$Signals$Serial") (name := "head") (desc := "I") C (by decide +kernel) (Or.inl (kw K hw q938)) (fun _ h => h) (Nat.le_of_ble_eq_true rfl) (Nat.le_of_ble_eq_true rfl) (fs_one (⟨_, ff_78_231 s0 H0 oa D⟩))) ?_
  refine fs_c1 (fs_getf (pc := 26) (n := 973398328) (idx := 26) (ref := "BoardMachine$Signals$Serial") (O := "BoardMachine$Signals$Serial") (name := "count") (desc := "I") C (by decide +kernel) (Or.inl (kw K hw q939)) (fun _ h => h) (Nat.le_of_ble_eq_true rfl) (Nat.le_of_ble_eq_true rfl) (fs_one (⟨_, ff_78_232 s0 H0 oa D⟩))) ?_
  refine fs_c1 (fs_getf (pc := 41) (n := 973398328) (idx := 26) (ref := "BoardMachine$Signals$Serial") (O := "BoardMachine$Signals$Serial") (name := "count") (desc := "I") C (by decide +kernel) (Or.inl (kw K hw q939)) (fun _ h => h) (Nat.le_of_ble_eq_true rfl) (Nat.le_of_ble_eq_true rfl) (fs_one (⟨_, ff_78_232 s0 H0 oa D⟩))) ?_
  refine fs_c1 (fs_putf (pc := 46) (n := 973398328) (idx := 26) (ref := "BoardMachine$Signals$Serial") (O := "BoardMachine$Signals$Serial") (name := "count") (desc := "I") (fin := false) (ty := .int) C (by decide +kernel) (Or.inl ⟨rfl, Or.inl (kw K hw q939)⟩) (fun _ h => h) (Nat.le_of_ble_eq_true rfl) (Nat.le_of_ble_eq_true rfl) (Nat.le_of_ble_eq_true rfl) rfl rfl (by decide) (fs_one (⟨rfl, ff_78_232 s0 H0 oa D⟩))) ?_
  refine fs_c1 (fs_putf (pc := 54) (n := 994369851) (idx := 37) (ref := "BoardMachine$Signals$Serial") (O := "BoardMachine$Signals$Serial") (name := "overrun") (desc := "Z") (fin := false) (ty := .boolean) C (by decide +kernel) (Or.inl ⟨rfl, Or.inl (kw K hw q945)⟩) (fun _ h => h) (Nat.le_of_ble_eq_true rfl) (Nat.le_of_ble_eq_true rfl) (Nat.le_of_ble_eq_true rfl) rfl rfl (by decide) (fs_one (⟨rfl, ff_78_237 s0 H0 oa D⟩))) ?_
  exact fs_c0
theorem hX31_send : fe_H (sX31_send FX31_has FX31_come) cX31_send [0, 44] fe_kv [] 35 (fun _ => dX31_send FX31_send_0 FX31_send_44) := by
  intro j pc L st M r hc h
  rcases fe_mem_c hc with rfl | hc
  · obtain ⟨w0, m0, h⟩ := fe_lR_d h
    obtain ⟨w1, m1, h⟩ := fe_lI_d h
    obtain ⟨rfl, hz⟩ := fe_t0_d h
    exact ⟨[(0, .ref w0), (1, .int w1)], (fe_cs m0 (fe_cs m1 fe_nl)), Or.inr ((bX31_send_0 FX31_has FX31_come FX31_send_0 FX31_send_44 w0 w1 M).symm.trans hz)⟩
  rcases fe_mem_c hc with rfl | hc
  · obtain ⟨w0, m0, h⟩ := fe_lR_d h
    obtain ⟨rfl, hz⟩ := fe_t0_d h
    exact ⟨[(0, .ref w0)], (fe_cs m0 fe_nl), Or.inr ((bX31_send_44 FX31_has FX31_come FX31_send_0 FX31_send_44 w0 M).symm.trans hz)⟩
  exact fe_mem_0 hc
theorem vX31_send : fe_SB (sX31_send FX31_has FX31_come) := by
  refine ⟨?_, ?_, ?_, ?_⟩
  · intro i As M r h
    exact fe_no h
  · intro i As M r h
    rcases fe_bc h with h | h
    · obtain ⟨v0, t0, rfl, g0⟩ := fe_tR_d h
      obtain ⟨v1, t1, rfl, g1⟩ := fe_tI_d g0
      obtain ⟨v2, t2, rfl, g2⟩ := fe_tI_d g1
      obtain ⟨rfl, hz⟩ := fe_t0_d g2
      exact mX31_has v0 v1 v2 M r hz
    rcases fe_bc h with h | h
    · obtain ⟨v0, t0, rfl, g0⟩ := fe_tR_d h
      obtain ⟨v1, t1, rfl, g1⟩ := fe_tI_d g0
      obtain ⟨rfl, hz⟩ := fe_t0_d g1
      exact mX31_come v0 v1 M r hz
    exact fe_no h
  · intro i As M r h
    exact fe_no h
  · intro i As M r h
    exact fe_no h
theorem eX31_send (g0 : Nat → Int32 → FM → Option (FM)) (g44 : Nat → FM → Option (FM)) (a0 : Nat) (a1 : Int32) (M : FM) : dX31_send g0 g44 0 [(0, .ref a0), (1, .int a1)] [] M = g0 a0 a1 M := by rfl
theorem mX31_send (a0 : Nat) (a1 : Int32) (M : FM) (r : FM) (h : FX31_send a0 a1 M = some r) : fm_nx M ≤ fm_nx r ∧ fm_ns M ≤ fm_ns r :=
  fe_mono (L0 := [(0, .ref a0), (1, .int a1)]) (vX31_send) (by decide +kernel) (hX31_send) (fe_kv_k r) 0 rfl ((eX31_send FX31_send_0 FX31_send_44 a0 a1 M).trans h)
theorem zX31_send {s0 : State} {H0 : Heap} {oa : Nat → Nat} {D : va_G} (K : fk s0 H0 oa D) (l : Launch) (a0 : Nat) (a1 : Int32) (M : FM) (r : FM) (h : FX31_send a0 a1 M = some r) : fs_Con (fk_E s0 H0 oa D) l 3 ⟨"BoardMachine$Signals$Serial", "send", "(I)V"⟩ prog_91_method_11_code 2 (Option.none : Option Jvm.ClassFile.FieldType) [.ref a0, .int a1] M none r := by
  have o0 : fs_OS (sX31_send FX31_has FX31_come) 0 1 (fs_Con (fk_E s0 H0 oa D) l 1 ⟨"BoardMachine$Signals$Serial", "has", "(II)Z"⟩ prog_91_method_5_code 3 (Option.some Jvm.ClassFile.FieldType.boolean)) := by
    intro As M r h
    obtain ⟨v0, t0, rfl, g0⟩ := fe_tR_d h
    obtain ⟨v1, t1, rfl, g1⟩ := fe_tI_d g0
    obtain ⟨v2, t2, rfl, g2⟩ := fe_tI_d g1
    obtain ⟨rfl, hz⟩ := fe_t0_d g2
    exact zX31_has K l v0 v1 v2 M r hz
  have o1 : fs_OS (sX31_send FX31_has FX31_come) 1 1 (fs_Con (fk_E s0 H0 oa D) l 2 ⟨"BoardMachine$Signals$Serial", "come", "(I)Z"⟩ prog_91_method_3_code 3 (Option.some Jvm.ClassFile.FieldType.boolean)) := by
    intro As M r h
    obtain ⟨v0, t0, rfl, g0⟩ := fe_tR_d h
    obtain ⟨v1, t1, rfl, g1⟩ := fe_tI_d g0
    obtain ⟨rfl, hz⟩ := fe_t0_d g1
    exact zX31_come K l v0 v1 M r hz
  refine fs_method (own := "BoardMachine$Signals$Serial") rfl (by decide) K.2.1 (by rw [fe_slen]; exact (Nat.le_of_ble_eq_true rfl)) (mX31_send a0 a1 M r h) (hX31_send) 0 rfl (L0 := [(0, .ref a0), (1, .int a1)]) (fun E => fe_args_e E [.ref a0, .int a1] 0) ((eX31_send FX31_send_0 FX31_send_44 a0 a1 M).trans h) (fe_kv_k r) (fun H hR => fs_nr_o (by decide) (by decide)) ?_
  intro p e s m args below meth c Q C hnm
  have hw : s0.WarmedH s.vm := C.2.2.2.2.1
  refine fe_all C fk_hwr cX31_send [3, 11, 19, 23, 26, 36, 41, 46] (by decide +kernel) (fe_fil (cps := [(3, 6, .invokevirtual 13711438), (11, 14, .invokevirtual 76625998), (19, 22, .getfield 977592634), (23, 26, .getfield 981786937), (26, 29, .jsr_w (4096)), (36, 39, .getfield 981786937), (41, 44, .putfield 981786937), (46, 49, .putfield 998564155)]) (by decide +kernel) ?_)
  refine fs_c1 (fs_inv_virtual (pc := 3) (n := 13711438) C (Nat.le_of_ble_eq_true rfl) (Nat.le_of_ble_eq_true rfl) (fs_lk_virtual (idx := 40) (y := ⟨"BoardMachine$Signals$Serial", "has", "(II)Z"⟩) (bytes := prog_91_method_5_code) (maxL := 3) (rt := (Option.some Jvm.ClassFile.FieldType.boolean)) (d := 1) C (Nat.le_of_ble_eq_true rfl) (Nat.le_of_ble_eq_true rfl) (by decide +kernel) (kw K hw q3571) (kw K hw q342) (kw K hw q3570) (Or.inl (kw K hw q3568)) ⟨by decide, by decide⟩ rfl (Nat.le_of_ble_eq_true rfl) (Nat.le_of_ble_eq_true rfl) (fs_one (⟨_, rfl, kw K hw qs69⟩))) fs_con_mono o0) ?_
  refine fs_c1 (fs_inv_virtual (pc := 11) (n := 76625998) C (Nat.le_of_ble_eq_true rfl) (Nat.le_of_ble_eq_true rfl) (fs_lk_virtual (idx := 64) (y := ⟨"BoardMachine$Signals$Serial", "come", "(I)Z"⟩) (bytes := prog_91_method_3_code) (maxL := 3) (rt := (Option.some Jvm.ClassFile.FieldType.boolean)) (d := 2) C (Nat.le_of_ble_eq_true rfl) (Nat.le_of_ble_eq_true rfl) (by decide +kernel) (kw K hw q3704) (kw K hw q342) (kw K hw q3702) (Or.inl (kw K hw q3701)) ⟨by decide, by decide⟩ rfl (Nat.le_of_ble_eq_true rfl) (Nat.le_of_ble_eq_true rfl) (fs_one (⟨_, rfl, kw K hw q3703⟩))) fs_con_mono o1) ?_
  refine fs_c1 (fs_getf (pc := 19) (n := 977592634) (idx := 15) (ref := "BoardMachine$Signals$Serial") (O := "BoardMachine$Signals$Serial") (name := "out") (desc := "[B") C (by decide +kernel) (Or.inl (kw K hw q940)) (fun _ h => h) (Nat.le_of_ble_eq_true rfl) (Nat.le_of_ble_eq_true rfl) (fs_one (⟨_, ff_78_233 s0 H0 oa D⟩))) ?_
  refine fs_c1 (fs_getf (pc := 23) (n := 981786937) (idx := 68) (ref := "BoardMachine$Signals$Serial") (O := "BoardMachine$Signals$Serial") (name := "sent") (desc := "J") C (by decide +kernel) (Or.inl (kw K hw q941)) (fun _ h => h) (Nat.le_of_ble_eq_true rfl) (Nat.le_of_ble_eq_true rfl) (fs_one (⟨_, ff_78_234 s0 H0 oa D⟩))) ?_
  refine fs_c1 (fs_ldcl (pc := 26) (idx := 72) (v := 4096) C (by decide +kernel) (kw K hw q2563)) ?_
  refine fs_c1 (fs_getf (pc := 36) (n := 981786937) (idx := 68) (ref := "BoardMachine$Signals$Serial") (O := "BoardMachine$Signals$Serial") (name := "sent") (desc := "J") C (by decide +kernel) (Or.inl (kw K hw q941)) (fun _ h => h) (Nat.le_of_ble_eq_true rfl) (Nat.le_of_ble_eq_true rfl) (fs_one (⟨_, ff_78_234 s0 H0 oa D⟩))) ?_
  refine fs_c1 (fs_putf (pc := 41) (n := 981786937) (idx := 68) (ref := "BoardMachine$Signals$Serial") (O := "BoardMachine$Signals$Serial") (name := "sent") (desc := "J") (fin := false) (ty := .long) C (by decide +kernel) (Or.inl ⟨rfl, Or.inl (kw K hw q941)⟩) (fun _ h => h) (Nat.le_of_ble_eq_true rfl) (Nat.le_of_ble_eq_true rfl) (Nat.le_of_ble_eq_true rfl) rfl rfl (by decide) (fs_one (⟨rfl, ff_78_234 s0 H0 oa D⟩))) ?_
  refine fs_c1 (fs_putf (pc := 46) (n := 998564155) (idx := 44) (ref := "BoardMachine$Signals$Serial") (O := "BoardMachine$Signals$Serial") (name := "emptied") (desc := "Z") (fin := false) (ty := .boolean) C (by decide +kernel) (Or.inl ⟨rfl, Or.inl (kw K hw q946)⟩) (fun _ h => h) (Nat.le_of_ble_eq_true rfl) (Nat.le_of_ble_eq_true rfl) (Nat.le_of_ble_eq_true rfl) rfl rfl (by decide) (fs_one (⟨rfl, ff_78_238 s0 H0 oa D⟩))) ?_
  exact fs_c0
theorem hX31_queue : fe_H (sX31_queue) cX31_queue [0, 12, 28, 33] fe_kv [] 30 (fun _ => dX31_queue FX31_queue_0 FX31_queue_12 FX31_queue_28 FX31_queue_33) := by
  intro j pc L st M r hc h
  rcases fe_mem_c hc with rfl | hc
  · obtain ⟨w0, m0, h⟩ := fe_lR_d h
    obtain ⟨w1, m1, h⟩ := fe_lI_d h
    obtain ⟨rfl, hz⟩ := fe_t0_d h
    exact ⟨[(0, .ref w0), (1, .int w1)], (fe_cs m0 (fe_cs m1 fe_nl)), Or.inr ((bX31_queue_0 FX31_queue_0 FX31_queue_12 FX31_queue_28 FX31_queue_33 w0 w1 M).symm.trans hz)⟩
  rcases fe_mem_c hc with rfl | hc
  · obtain ⟨w0, m0, h⟩ := fe_lR_d h
    obtain ⟨w1, m1, h⟩ := fe_lI_d h
    obtain ⟨s0, t0, rfl, g0⟩ := fe_tI_d h
    obtain ⟨rfl, hz⟩ := fe_t0_d g0
    exact ⟨[(0, .ref w0), (1, .int w1)], (fe_cs m0 (fe_cs m1 fe_nl)), Or.inr ((bX31_queue_12 FX31_queue_0 FX31_queue_12 FX31_queue_28 FX31_queue_33 w0 w1 s0 M).symm.trans hz)⟩
  rcases fe_mem_c hc with rfl | hc
  · obtain ⟨w0, m0, h⟩ := fe_lR_d h
    obtain ⟨w2, m2, h⟩ := fe_lI_d h
    obtain ⟨rfl, hz⟩ := fe_t0_d h
    exact ⟨[(0, .ref w0), (2, .int w2)], (fe_cs m0 (fe_cs m2 fe_nl)), Or.inr ((bX31_queue_28 FX31_queue_0 FX31_queue_12 FX31_queue_28 FX31_queue_33 w0 w2 M).symm.trans hz)⟩
  rcases fe_mem_c hc with rfl | hc
  · obtain ⟨w0, m0, h⟩ := fe_lR_d h
    obtain ⟨w2, m2, h⟩ := fe_lI_d h
    obtain ⟨rfl, hz⟩ := fe_t0_d h
    exact ⟨[(0, .ref w0), (2, .int w2)], (fe_cs m0 (fe_cs m2 fe_nl)), Or.inr ((bX31_queue_33 FX31_queue_0 FX31_queue_12 FX31_queue_28 FX31_queue_33 w0 w2 M).symm.trans hz)⟩
  exact fe_mem_0 hc
theorem vX31_queue : fe_SB (sX31_queue) := by
  refine ⟨?_, ?_, ?_, ?_⟩
  · intro i As M r h
    exact fe_no h
  · intro i As M r h
    exact fe_no h
  · intro i As M r h
    exact fe_no h
  · intro i As M r h
    exact fe_no h
theorem eX31_queue (g0 : Nat → Int32 → FM → Option (FM)) (g12 : Nat → Int32 → Int32 → FM → Option (FM)) (g28 : Nat → Int32 → FM → Option (FM)) (g33 : Nat → Int32 → FM → Option (FM)) (a0 : Nat) (a1 : Int32) (M : FM) : dX31_queue g0 g12 g28 g33 0 [(0, .ref a0), (1, .int a1)] [] M = g0 a0 a1 M := by rfl
theorem mX31_queue (a0 : Nat) (a1 : Int32) (M : FM) (r : FM) (h : FX31_queue a0 a1 M = some r) : fm_nx M ≤ fm_nx r ∧ fm_ns M ≤ fm_ns r :=
  fe_mono (L0 := [(0, .ref a0), (1, .int a1)]) (vX31_queue) (by decide +kernel) (hX31_queue) (fe_kv_k r) 0 rfl ((eX31_queue FX31_queue_0 FX31_queue_12 FX31_queue_28 FX31_queue_33 a0 a1 M).trans h)
theorem zX31_queue {s0 : State} {H0 : Heap} {oa : Nat → Nat} {D : va_G} (K : fk s0 H0 oa D) (l : Launch) (a0 : Nat) (a1 : Int32) (M : FM) (r : FM) (h : FX31_queue a0 a1 M = some r) : fs_Con (fk_E s0 H0 oa D) l 1 ⟨"BoardMachine$Signals$Serial", "queue", "(I)V"⟩ prog_91_method_12_code 3 (Option.none : Option Jvm.ClassFile.FieldType) [.ref a0, .int a1] M none r := by
  refine fs_method (own := "BoardMachine$Signals$Serial") rfl (by decide) K.2.1 (by rw [fe_slen]; exact (Nat.le_of_ble_eq_true rfl)) (mX31_queue a0 a1 M r h) (hX31_queue) 0 rfl (L0 := [(0, .ref a0), (1, .int a1)]) (fun E => fe_args_e E [.ref a0, .int a1] 0) ((eX31_queue FX31_queue_0 FX31_queue_12 FX31_queue_28 FX31_queue_33 a0 a1 M).trans h) (fe_kv_k r) (fun H hR => fs_nr_o (by decide) (by decide)) ?_
  intro p e s m args below meth c Q C hnm
  have hw : s0.WarmedH s.vm := C.2.2.2.2.1
  refine fe_all C fk_hwr cX31_queue [15, 30, 35] (by decide +kernel) (fe_fil (cps := [(15, 18, .getfield 990175547), (30, 33, .putfield 973398328), (35, 38, .putfield 990175547)]) (by decide +kernel) ?_)
  refine fs_c1 (fs_getf (pc := 15) (n := 990175547) (idx := 22) (ref := "BoardMachine$Signals$Serial") (O := "BoardMachine$Signals$Serial") (name := "queued") (desc := "Z") C (by decide +kernel) (Or.inl (kw K hw q944)) (fun _ h => h) (Nat.le_of_ble_eq_true rfl) (Nat.le_of_ble_eq_true rfl) (fs_one (⟨_, ff_78_236 s0 H0 oa D⟩))) ?_
  refine fs_c1 (fs_putf (pc := 30) (n := 973398328) (idx := 26) (ref := "BoardMachine$Signals$Serial") (O := "BoardMachine$Signals$Serial") (name := "count") (desc := "I") (fin := false) (ty := .int) C (by decide +kernel) (Or.inl ⟨rfl, Or.inl (kw K hw q939)⟩) (fun _ h => h) (Nat.le_of_ble_eq_true rfl) (Nat.le_of_ble_eq_true rfl) (Nat.le_of_ble_eq_true rfl) rfl rfl (by decide) (fs_one (⟨rfl, ff_78_232 s0 H0 oa D⟩))) ?_
  refine fs_c1 (fs_putf (pc := 35) (n := 990175547) (idx := 22) (ref := "BoardMachine$Signals$Serial") (O := "BoardMachine$Signals$Serial") (name := "queued") (desc := "Z") (fin := false) (ty := .boolean) C (by decide +kernel) (Or.inl ⟨rfl, Or.inl (kw K hw q944)⟩) (fun _ h => h) (Nat.le_of_ble_eq_true rfl) (Nat.le_of_ble_eq_true rfl) (Nat.le_of_ble_eq_true rfl) rfl rfl (by decide) (fs_one (⟨rfl, ff_78_236 s0 H0 oa D⟩))) ?_
  exact fs_c0
theorem hX31_write : fe_H (sX31_write FX31_has FX31_send FX31_queue) cX31_write [0, 13, 56, 139, 140, 181, 193] fe_kv [] 88 (fun _ => dX31_write FX31_write_0 FX31_write_13 FX31_write_56 FX31_write_139 FX31_write_140 FX31_write_181 FX31_write_193) := by
  intro j pc L st M r hc h
  rcases fe_mem_c hc with rfl | hc
  · obtain ⟨w0, m0, h⟩ := fe_lR_d h
    obtain ⟨w1, m1, h⟩ := fe_lL_d h
    obtain ⟨w3, m3, h⟩ := fe_lI_d h
    obtain ⟨w4, m4, h⟩ := fe_lL_d h
    obtain ⟨rfl, hz⟩ := fe_t0_d h
    exact ⟨[(0, .ref w0), (1, .long w1), (3, .int w3), (4, .long w4)], (fe_cs m0 (fe_cs m1 (fe_cs m3 (fe_cs m4 fe_nl)))), Or.inr ((bX31_write_0 FX31_has FX31_send FX31_queue FX31_write_0 FX31_write_13 FX31_write_56 FX31_write_139 FX31_write_140 FX31_write_181 FX31_write_193 w0 w1 w3 w4 M).symm.trans hz)⟩
  rcases fe_mem_c hc with rfl | hc
  · obtain ⟨rfl, hz⟩ := fe_t0_d h
    exact ⟨[], fe_nl, Or.inr ((bX31_write_13 FX31_has FX31_send FX31_queue FX31_write_0 FX31_write_13 FX31_write_56 FX31_write_139 FX31_write_140 FX31_write_181 FX31_write_193 M).symm.trans hz)⟩
  rcases fe_mem_c hc with rfl | hc
  · obtain ⟨w0, m0, h⟩ := fe_lR_d h
    obtain ⟨w6, m6, h⟩ := fe_lI_d h
    obtain ⟨w7, m7, h⟩ := fe_lI_d h
    obtain ⟨rfl, hz⟩ := fe_t0_d h
    exact ⟨[(0, .ref w0), (6, .int w6), (7, .int w7)], (fe_cs m0 (fe_cs m6 (fe_cs m7 fe_nl))), Or.inr ((bX31_write_56 FX31_has FX31_send FX31_queue FX31_write_0 FX31_write_13 FX31_write_56 FX31_write_139 FX31_write_140 FX31_write_181 FX31_write_193 w0 w6 w7 M).symm.trans hz)⟩
  rcases fe_mem_c hc with rfl | hc
  · obtain ⟨w0, m0, h⟩ := fe_lR_d h
    obtain ⟨w7, m7, h⟩ := fe_lI_d h
    obtain ⟨s1, t1, rfl, g1⟩ := fe_tI_d h
    obtain ⟨s0, t0, rfl, g0⟩ := fe_tR_d g1
    obtain ⟨rfl, hz⟩ := fe_t0_d g0
    exact ⟨[(0, .ref w0), (7, .int w7)], (fe_cs m0 (fe_cs m7 fe_nl)), Or.inr ((bX31_write_139 FX31_has FX31_send FX31_queue FX31_write_0 FX31_write_13 FX31_write_56 FX31_write_139 FX31_write_140 FX31_write_181 FX31_write_193 w0 w7 s0 s1 M).symm.trans hz)⟩
  rcases fe_mem_c hc with rfl | hc
  · obtain ⟨w0, m0, h⟩ := fe_lR_d h
    obtain ⟨w7, m7, h⟩ := fe_lI_d h
    obtain ⟨s2, t2, rfl, g2⟩ := fe_tI_d h
    obtain ⟨s1, t1, rfl, g1⟩ := fe_tI_d g2
    obtain ⟨s0, t0, rfl, g0⟩ := fe_tR_d g1
    obtain ⟨rfl, hz⟩ := fe_t0_d g0
    exact ⟨[(0, .ref w0), (7, .int w7)], (fe_cs m0 (fe_cs m7 fe_nl)), Or.inr ((bX31_write_140 FX31_has FX31_send FX31_queue FX31_write_0 FX31_write_13 FX31_write_56 FX31_write_139 FX31_write_140 FX31_write_181 FX31_write_193 w0 w7 s0 s1 s2 M).symm.trans hz)⟩
  rcases fe_mem_c hc with rfl | hc
  · obtain ⟨w0, m0, h⟩ := fe_lR_d h
    obtain ⟨w6, m6, h⟩ := fe_lI_d h
    obtain ⟨w7, m7, h⟩ := fe_lI_d h
    obtain ⟨rfl, hz⟩ := fe_t0_d h
    exact ⟨[(0, .ref w0), (6, .int w6), (7, .int w7)], (fe_cs m0 (fe_cs m6 (fe_cs m7 fe_nl))), Or.inr ((bX31_write_181 FX31_has FX31_send FX31_queue FX31_write_0 FX31_write_13 FX31_write_56 FX31_write_139 FX31_write_140 FX31_write_181 FX31_write_193 w0 w6 w7 M).symm.trans hz)⟩
  rcases fe_mem_c hc with rfl | hc
  · obtain ⟨rfl, hz⟩ := fe_t0_d h
    exact ⟨[], fe_nl, Or.inr ((bX31_write_193 FX31_has FX31_send FX31_queue FX31_write_0 FX31_write_13 FX31_write_56 FX31_write_139 FX31_write_140 FX31_write_181 FX31_write_193 M).symm.trans hz)⟩
  exact fe_mem_0 hc
theorem vX31_write : fe_SB (sX31_write FX31_has FX31_send FX31_queue) := by
  refine ⟨?_, ?_, ?_, ?_⟩
  · intro i As M r h
    rcases fe_bc h with h | h
    · obtain ⟨v0, t0, rfl, g0⟩ := fe_tR_d h
      obtain ⟨v1, t1, rfl, g1⟩ := fe_tI_d g0
      obtain ⟨rfl, hz⟩ := fe_t0_d g1
      exact mX31_send v0 v1 M r hz
    rcases fe_bc h with h | h
    · obtain ⟨v0, t0, rfl, g0⟩ := fe_tR_d h
      obtain ⟨v1, t1, rfl, g1⟩ := fe_tI_d g0
      obtain ⟨rfl, hz⟩ := fe_t0_d g1
      exact mX31_queue v0 v1 M r hz
    exact fe_no h
  · intro i As M r h
    rcases fe_bc h with h | h
    · obtain ⟨v0, t0, rfl, g0⟩ := fe_tR_d h
      obtain ⟨v1, t1, rfl, g1⟩ := fe_tI_d g0
      obtain ⟨v2, t2, rfl, g2⟩ := fe_tI_d g1
      obtain ⟨rfl, hz⟩ := fe_t0_d g2
      exact mX31_has v0 v1 v2 M r hz
    exact fe_no h
  · intro i As M r h
    exact fe_no h
  · intro i As M r h
    exact fe_no h
theorem eX31_write (g0 : Nat → Int64 → Int32 → Int64 → FM → Option (FM)) (g13 : FM → Option (FM)) (g56 : Nat → Int32 → Int32 → FM → Option (FM)) (g139 : Nat → Int32 → Nat → Int32 → FM → Option (FM)) (g140 : Nat → Int32 → Nat → Int32 → Int32 → FM → Option (FM)) (g181 : Nat → Int32 → Int32 → FM → Option (FM)) (g193 : FM → Option (FM)) (a0 : Nat) (a1 : Int64) (a3 : Int32) (a4 : Int64) (M : FM) : dX31_write g0 g13 g56 g139 g140 g181 g193 0 [(0, .ref a0), (1, .long a1), (3, .int a3), (4, .long a4)] [] M = g0 a0 a1 a3 a4 M := by rfl
theorem mX31_write (a0 : Nat) (a1 : Int64) (a3 : Int32) (a4 : Int64) (M : FM) (r : FM) (h : FX31_write a0 a1 a3 a4 M = some r) : fm_nx M ≤ fm_nx r ∧ fm_ns M ≤ fm_ns r :=
  fe_mono (L0 := [(0, .ref a0), (1, .long a1), (3, .int a3), (4, .long a4)]) (vX31_write) (by decide +kernel) (hX31_write) (fe_kv_k r) 0 rfl ((eX31_write FX31_write_0 FX31_write_13 FX31_write_56 FX31_write_139 FX31_write_140 FX31_write_181 FX31_write_193 a0 a1 a3 a4 M).trans h)
theorem zX31_write {s0 : State} {H0 : Heap} {oa : Nat → Nat} {D : va_G} (K : fk s0 H0 oa D) (l : Launch) (a0 : Nat) (a1 : Int64) (a3 : Int32) (a4 : Int64) (M : FM) (r : FM) (h : FX31_write a0 a1 a3 a4 M = some r) : fs_Con (fk_E s0 H0 oa D) l 4 ⟨"BoardMachine$Signals$Serial", "write", "(JIJ)V"⟩ prog_91_method_13_code 8 (Option.none : Option Jvm.ClassFile.FieldType) [.ref a0, .long a1, .int a3, .long a4] M none r := by
  have o0 : fs_OS (sX31_write FX31_has FX31_send FX31_queue) 0 1 (fs_Con (fk_E s0 H0 oa D) l 1 ⟨"BoardMachine$Signals$Serial", "has", "(II)Z"⟩ prog_91_method_5_code 3 (Option.some Jvm.ClassFile.FieldType.boolean)) := by
    intro As M r h
    obtain ⟨v0, t0, rfl, g0⟩ := fe_tR_d h
    obtain ⟨v1, t1, rfl, g1⟩ := fe_tI_d g0
    obtain ⟨v2, t2, rfl, g2⟩ := fe_tI_d g1
    obtain ⟨rfl, hz⟩ := fe_t0_d g2
    exact zX31_has K l v0 v1 v2 M r hz
  have o1 : fs_OS (sX31_write FX31_has FX31_send FX31_queue) 1 0 (fs_Con (fk_E s0 H0 oa D) l 3 ⟨"BoardMachine$Signals$Serial", "send", "(I)V"⟩ prog_91_method_11_code 2 (Option.none : Option Jvm.ClassFile.FieldType)) := by
    intro As M r h
    obtain ⟨v0, t0, rfl, g0⟩ := fe_tR_d h
    obtain ⟨v1, t1, rfl, g1⟩ := fe_tI_d g0
    obtain ⟨rfl, hz⟩ := fe_t0_d g1
    exact zX31_send K l v0 v1 M r hz
  have o2 : fs_OS (sX31_write FX31_has FX31_send FX31_queue) 2 0 (fs_Con (fk_E s0 H0 oa D) l 1 ⟨"BoardMachine$Signals$Serial", "queue", "(I)V"⟩ prog_91_method_12_code 3 (Option.none : Option Jvm.ClassFile.FieldType)) := by
    intro As M r h
    obtain ⟨v0, t0, rfl, g0⟩ := fe_tR_d h
    obtain ⟨v1, t1, rfl, g1⟩ := fe_tI_d g0
    obtain ⟨rfl, hz⟩ := fe_t0_d g1
    exact zX31_queue K l v0 v1 M r hz
  refine fs_method (own := "BoardMachine$Signals$Serial") rfl (by decide) K.2.1 (by rw [fe_slen]; exact (Nat.le_of_ble_eq_true rfl)) (mX31_write a0 a1 a3 a4 M r h) (hX31_write) 0 rfl (L0 := [(0, .ref a0), (1, .long a1), (3, .int a3), (4, .long a4)]) (fun E => fe_args_e E [.ref a0, .long a1, .int a3, .long a4] 0) ((eX31_write FX31_write_0 FX31_write_13 FX31_write_56 FX31_write_139 FX31_write_140 FX31_write_181 FX31_write_193 a0 a1 a3 a4 M).trans h) (fe_kv_k r) (fun H hR => fs_nr_o (by decide) (by decide)) ?_
  intro p e s m args below meth c Q C hnm
  have hw : s0.WarmedH s.vm := C.2.2.2.2.1
  refine fe_all C fk_hwr cX31_write [6, 37, 44, 58, 107, 115, 121, 141, 145, 161, 168, 182] (by decide +kernel) (fe_fil (cps := [(6, 9, .jsr_w (7)), (37, 40, .invokevirtual 13711438), (44, 47, .getfield 985981242), (58, 104, .lookupswitch (135) #[(0, 46), (1, 55), (2, 100), (3, 123), (4, 109), (5, 135), (6, 135), (7, 123)]), (107, 110, .invokevirtual 75577422), (115, 118, .getfield 998564155), (121, 124, .invokevirtual 13711438), (141, 144, .putfield 998564155), (145, 148, .getfield 985981242), (161, 164, .invokevirtual 142686286), (168, 171, .getfield 985981242), (182, 185, .getfield 985981242)]) (by decide +kernel) ?_)
  refine fs_c1 (fs_ldcl (pc := 6) (idx := 50) (v := 7) C (by decide +kernel) (kw K hw q3567)) ?_
  refine fs_c1 (fs_inv_virtual (pc := 37) (n := 13711438) C (Nat.le_of_ble_eq_true rfl) (Nat.le_of_ble_eq_true rfl) (fs_lk_virtual (idx := 40) (y := ⟨"BoardMachine$Signals$Serial", "has", "(II)Z"⟩) (bytes := prog_91_method_5_code) (maxL := 3) (rt := (Option.some Jvm.ClassFile.FieldType.boolean)) (d := 1) C (Nat.le_of_ble_eq_true rfl) (Nat.le_of_ble_eq_true rfl) (by decide +kernel) (kw K hw q3571) (kw K hw q342) (kw K hw q3570) (Or.inl (kw K hw q3568)) ⟨by decide, by decide⟩ rfl (Nat.le_of_ble_eq_true rfl) (Nat.le_of_ble_eq_true rfl) (fs_one (⟨_, rfl, kw K hw qs69⟩))) fs_con_mono o0) ?_
  refine fs_c1 (fs_getf (pc := 44) (n := 985981242) (idx := 19) (ref := "BoardMachine$Signals$Serial") (O := "BoardMachine$Signals$Serial") (name := "held") (desc := "[I") C (by decide +kernel) (Or.inl (kw K hw q943)) (fun _ h => h) (Nat.le_of_ble_eq_true rfl) (Nat.le_of_ble_eq_true rfl) (fs_one (⟨_, ff_78_235 s0 H0 oa D⟩))) ?_
  refine fs_c1 (fs_tswl (pc := 58) (nx := 104) (d := 135) (lo := 0) (hi := 7) (offs := #[46, 55, 100, 123, 109, 135, 135, 123]) C (by decide +kernel) (by decide +kernel)) ?_
  refine fs_c1 (fs_inv_virtual (pc := 107) (n := 75577422) C (Nat.le_of_ble_eq_true rfl) (Nat.le_of_ble_eq_true rfl) (fs_lk_virtual (idx := 74) (y := ⟨"BoardMachine$Signals$Serial", "send", "(I)V"⟩) (bytes := prog_91_method_11_code) (maxL := 2) (rt := (Option.none : Option Jvm.ClassFile.FieldType)) (d := 3) C (Nat.le_of_ble_eq_true rfl) (Nat.le_of_ble_eq_true rfl) (by decide +kernel) (kw K hw q3700) (kw K hw q342) (kw K hw q3699) (Or.inl (kw K hw q3697)) ⟨by decide, by decide⟩ rfl (Nat.le_of_ble_eq_true rfl) (Nat.le_of_ble_eq_true rfl) (fs_one (⟨_, rfl, kw K hw qs81⟩))) fs_con_mono o1) ?_
  refine fs_c1 (fs_getf (pc := 115) (n := 998564155) (idx := 44) (ref := "BoardMachine$Signals$Serial") (O := "BoardMachine$Signals$Serial") (name := "emptied") (desc := "Z") C (by decide +kernel) (Or.inl (kw K hw q946)) (fun _ h => h) (Nat.le_of_ble_eq_true rfl) (Nat.le_of_ble_eq_true rfl) (fs_one (⟨_, ff_78_238 s0 H0 oa D⟩))) ?_
  refine fs_c1 (fs_inv_virtual (pc := 121) (n := 13711438) C (Nat.le_of_ble_eq_true rfl) (Nat.le_of_ble_eq_true rfl) (fs_lk_virtual (idx := 40) (y := ⟨"BoardMachine$Signals$Serial", "has", "(II)Z"⟩) (bytes := prog_91_method_5_code) (maxL := 3) (rt := (Option.some Jvm.ClassFile.FieldType.boolean)) (d := 1) C (Nat.le_of_ble_eq_true rfl) (Nat.le_of_ble_eq_true rfl) (by decide +kernel) (kw K hw q3571) (kw K hw q342) (kw K hw q3570) (Or.inl (kw K hw q3568)) ⟨by decide, by decide⟩ rfl (Nat.le_of_ble_eq_true rfl) (Nat.le_of_ble_eq_true rfl) (fs_one (⟨_, rfl, kw K hw qs69⟩))) fs_con_mono o0) ?_
  refine fs_c1 (fs_putf (pc := 141) (n := 998564155) (idx := 44) (ref := "BoardMachine$Signals$Serial") (O := "BoardMachine$Signals$Serial") (name := "emptied") (desc := "Z") (fin := false) (ty := .boolean) C (by decide +kernel) (Or.inl ⟨rfl, Or.inl (kw K hw q946)⟩) (fun _ h => h) (Nat.le_of_ble_eq_true rfl) (Nat.le_of_ble_eq_true rfl) (Nat.le_of_ble_eq_true rfl) rfl rfl (by decide) (fs_one (⟨rfl, ff_78_238 s0 H0 oa D⟩))) ?_
  refine fs_c1 (fs_getf (pc := 145) (n := 985981242) (idx := 19) (ref := "BoardMachine$Signals$Serial") (O := "BoardMachine$Signals$Serial") (name := "held") (desc := "[I") C (by decide +kernel) (Or.inl (kw K hw q943)) (fun _ h => h) (Nat.le_of_ble_eq_true rfl) (Nat.le_of_ble_eq_true rfl) (fs_one (⟨_, ff_78_235 s0 H0 oa D⟩))) ?_
  refine fs_c1 (fs_inv_virtual (pc := 161) (n := 142686286) C (Nat.le_of_ble_eq_true rfl) (Nat.le_of_ble_eq_true rfl) (fs_lk_virtual (idx := 78) (y := ⟨"BoardMachine$Signals$Serial", "queue", "(I)V"⟩) (bytes := prog_91_method_12_code) (maxL := 3) (rt := (Option.none : Option Jvm.ClassFile.FieldType)) (d := 1) C (Nat.le_of_ble_eq_true rfl) (Nat.le_of_ble_eq_true rfl) (by decide +kernel) (kw K hw q3712) (kw K hw q342) (kw K hw q3711) (Or.inl (kw K hw q3709)) ⟨by decide, by decide⟩ rfl (Nat.le_of_ble_eq_true rfl) (Nat.le_of_ble_eq_true rfl) (fs_one (⟨_, rfl, kw K hw qs82⟩))) fs_con_mono o2) ?_
  refine fs_c1 (fs_getf (pc := 168) (n := 985981242) (idx := 19) (ref := "BoardMachine$Signals$Serial") (O := "BoardMachine$Signals$Serial") (name := "held") (desc := "[I") C (by decide +kernel) (Or.inl (kw K hw q943)) (fun _ h => h) (Nat.le_of_ble_eq_true rfl) (Nat.le_of_ble_eq_true rfl) (fs_one (⟨_, ff_78_235 s0 H0 oa D⟩))) ?_
  refine fs_c1 (fs_getf (pc := 182) (n := 985981242) (idx := 19) (ref := "BoardMachine$Signals$Serial") (O := "BoardMachine$Signals$Serial") (name := "held") (desc := "[I") C (by decide +kernel) (Or.inl (kw K hw q943)) (fun _ h => h) (Nat.le_of_ble_eq_true rfl) (Nat.le_of_ble_eq_true rfl) (fs_one (⟨_, ff_78_235 s0 H0 oa D⟩))) ?_
  exact fs_c0
theorem hX32_write : fe_H (sX32_write FX32_find FX32_isWhole FX32_isHalf) cX32_write [0, 33, 62, 113, 117, 154] fe_kv [] 92 (fun _ => dX32_write FX32_write_0 FX32_write_33 FX32_write_62 FX32_write_113 FX32_write_117 FX32_write_154) := by
  intro j pc L st M r hc h
  rcases fe_mem_c hc with rfl | hc
  · obtain ⟨w0, m0, h⟩ := fe_lR_d h
    obtain ⟨w1, m1, h⟩ := fe_lL_d h
    obtain ⟨w3, m3, h⟩ := fe_lI_d h
    obtain ⟨w4, m4, h⟩ := fe_lL_d h
    obtain ⟨rfl, hz⟩ := fe_t0_d h
    exact ⟨[(0, .ref w0), (1, .long w1), (3, .int w3), (4, .long w4)], (fe_cs m0 (fe_cs m1 (fe_cs m3 (fe_cs m4 fe_nl)))), Or.inr ((bX32_write_0 FX32_find FX32_isWhole FX32_isHalf FX32_write_0 FX32_write_33 FX32_write_62 FX32_write_113 FX32_write_117 FX32_write_154 w0 w1 w3 w4 M).symm.trans hz)⟩
  rcases fe_mem_c hc with rfl | hc
  · obtain ⟨w0, m0, h⟩ := fe_lR_d h
    obtain ⟨w1, m1, h⟩ := fe_lL_d h
    obtain ⟨w3, m3, h⟩ := fe_lI_d h
    obtain ⟨w4, m4, h⟩ := fe_lL_d h
    obtain ⟨w6, m6, h⟩ := fe_lI_d h
    obtain ⟨rfl, hz⟩ := fe_t0_d h
    exact ⟨[(0, .ref w0), (1, .long w1), (3, .int w3), (4, .long w4), (6, .int w6)], (fe_cs m0 (fe_cs m1 (fe_cs m3 (fe_cs m4 (fe_cs m6 fe_nl))))), Or.inr ((bX32_write_33 FX32_find FX32_isWhole FX32_isHalf FX32_write_0 FX32_write_33 FX32_write_62 FX32_write_113 FX32_write_117 FX32_write_154 w0 w1 w3 w4 w6 M).symm.trans hz)⟩
  rcases fe_mem_c hc with rfl | hc
  · obtain ⟨w0, m0, h⟩ := fe_lR_d h
    obtain ⟨w4, m4, h⟩ := fe_lL_d h
    obtain ⟨w6, m6, h⟩ := fe_lI_d h
    obtain ⟨s0, t0, rfl, g0⟩ := fe_tI_d h
    obtain ⟨rfl, hz⟩ := fe_t0_d g0
    exact ⟨[(0, .ref w0), (4, .long w4), (6, .int w6)], (fe_cs m0 (fe_cs m4 (fe_cs m6 fe_nl))), Or.inr ((bX32_write_62 FX32_find FX32_isWhole FX32_isHalf FX32_write_0 FX32_write_33 FX32_write_62 FX32_write_113 FX32_write_117 FX32_write_154 w0 w4 w6 s0 M).symm.trans hz)⟩
  rcases fe_mem_c hc with rfl | hc
  · obtain ⟨s2, t2, rfl, g2⟩ := fe_tL_d h
    obtain ⟨s1, t1, rfl, g1⟩ := fe_tI_d g2
    obtain ⟨s0, t0, rfl, g0⟩ := fe_tR_d g1
    obtain ⟨rfl, hz⟩ := fe_t0_d g0
    exact ⟨[], fe_nl, Or.inr ((bX32_write_113 FX32_find FX32_isWhole FX32_isHalf FX32_write_0 FX32_write_33 FX32_write_62 FX32_write_113 FX32_write_117 FX32_write_154 s0 s1 s2 M).symm.trans hz)⟩
  rcases fe_mem_c hc with rfl | hc
  · obtain ⟨w0, m0, h⟩ := fe_lR_d h
    obtain ⟨w1, m1, h⟩ := fe_lL_d h
    obtain ⟨w3, m3, h⟩ := fe_lI_d h
    obtain ⟨w4, m4, h⟩ := fe_lL_d h
    obtain ⟨rfl, hz⟩ := fe_t0_d h
    exact ⟨[(0, .ref w0), (1, .long w1), (3, .int w3), (4, .long w4)], (fe_cs m0 (fe_cs m1 (fe_cs m3 (fe_cs m4 fe_nl)))), Or.inr ((bX32_write_117 FX32_find FX32_isWhole FX32_isHalf FX32_write_0 FX32_write_33 FX32_write_62 FX32_write_113 FX32_write_117 FX32_write_154 w0 w1 w3 w4 M).symm.trans hz)⟩
  rcases fe_mem_c hc with rfl | hc
  · obtain ⟨rfl, hz⟩ := fe_t0_d h
    exact ⟨[], fe_nl, Or.inr ((bX32_write_154 FX32_find FX32_isWhole FX32_isHalf FX32_write_0 FX32_write_33 FX32_write_62 FX32_write_113 FX32_write_117 FX32_write_154 M).symm.trans hz)⟩
  exact fe_mem_0 hc
theorem vX32_write : fe_SB (sX32_write FX32_find FX32_isWhole FX32_isHalf) := by
  refine ⟨?_, ?_, ?_, ?_⟩
  · intro i As M r h
    exact fe_no h
  · intro i As M r h
    rcases fe_bc h with h | h
    · obtain ⟨v0, t0, rfl, g0⟩ := fe_tR_d h
      obtain ⟨v1, t1, rfl, g1⟩ := fe_tL_d g0
      obtain ⟨rfl, hz⟩ := fe_t0_d g1
      exact mX32_find v0 v1 M r hz
    rcases fe_bc h with h | h
    · obtain ⟨v0, t0, rfl, g0⟩ := fe_tR_d h
      obtain ⟨v1, t1, rfl, g1⟩ := fe_tL_d g0
      obtain ⟨v2, t2, rfl, g2⟩ := fe_tI_d g1
      obtain ⟨rfl, hz⟩ := fe_t0_d g2
      exact mX32_isWhole v0 v1 v2 M r hz
    rcases fe_bc h with h | h
    · obtain ⟨v0, t0, rfl, g0⟩ := fe_tR_d h
      obtain ⟨v1, t1, rfl, g1⟩ := fe_tL_d g0
      obtain ⟨v2, t2, rfl, g2⟩ := fe_tI_d g1
      obtain ⟨rfl, hz⟩ := fe_t0_d g2
      exact mX32_isHalf v0 v1 v2 M r hz
    exact fe_no h
  · intro i As M r h
    exact fe_no h
  · intro i As M r h
    exact fe_no h
theorem eX32_write (g0 : Nat → Int64 → Int32 → Int64 → FM → Option (FM)) (g33 : Nat → Int64 → Int32 → Int64 → Int32 → FM → Option (FM)) (g62 : Nat → Int64 → Int32 → Int32 → FM → Option (FM)) (g113 : Nat → Int32 → Int64 → FM → Option (FM)) (g117 : Nat → Int64 → Int32 → Int64 → FM → Option (FM)) (g154 : FM → Option (FM)) (a0 : Nat) (a1 : Int64) (a3 : Int32) (a4 : Int64) (M : FM) : dX32_write g0 g33 g62 g113 g117 g154 0 [(0, .ref a0), (1, .long a1), (3, .int a3), (4, .long a4)] [] M = g0 a0 a1 a3 a4 M := by rfl
theorem mX32_write (a0 : Nat) (a1 : Int64) (a3 : Int32) (a4 : Int64) (M : FM) (r : FM) (h : FX32_write a0 a1 a3 a4 M = some r) : fm_nx M ≤ fm_nx r ∧ fm_ns M ≤ fm_ns r :=
  fe_mono (L0 := [(0, .ref a0), (1, .long a1), (3, .int a3), (4, .long a4)]) (vX32_write) (by decide +kernel) (hX32_write) (fe_kv_k r) 0 rfl ((eX32_write FX32_write_0 FX32_write_33 FX32_write_62 FX32_write_113 FX32_write_117 FX32_write_154 a0 a1 a3 a4 M).trans h)
theorem zX32_write {s0 : State} {H0 : Heap} {oa : Nat → Nat} {D : va_G} (K : fk s0 H0 oa D) (l : Launch) (a0 : Nat) (a1 : Int64) (a3 : Int32) (a4 : Int64) (M : FM) (r : FM) (h : FX32_write a0 a1 a3 a4 M = some r) : fs_Con (fk_E s0 H0 oa D) l 2 ⟨"BoardMachine$Signals$Timer", "write", "(JIJ)V"⟩ prog_93_method_6_code 8 (Option.none : Option Jvm.ClassFile.FieldType) [.ref a0, .long a1, .int a3, .long a4] M none r := by
  have o0 : fs_OS (sX32_write FX32_find FX32_isWhole FX32_isHalf) 0 1 (fs_Con (fk_E s0 H0 oa D) l 1 ⟨"BoardMachine$Signals$Timer", "find", "(J)I"⟩ prog_93_method_2_code 5 (Option.some Jvm.ClassFile.FieldType.int)) := by
    intro As M r h
    obtain ⟨v0, t0, rfl, g0⟩ := fe_tR_d h
    obtain ⟨v1, t1, rfl, g1⟩ := fe_tL_d g0
    obtain ⟨rfl, hz⟩ := fe_t0_d g1
    exact zX32_find K l v0 v1 M r hz
  have o1 : fs_OS (sX32_write FX32_find FX32_isWhole FX32_isHalf) 1 1 (fs_Con (fk_E s0 H0 oa D) l 1 ⟨"BoardMachine$Signals$Timer", "isWhole", "(JI)Z"⟩ prog_93_method_3_code 4 (Option.some Jvm.ClassFile.FieldType.boolean)) := by
    intro As M r h
    obtain ⟨v0, t0, rfl, g0⟩ := fe_tR_d h
    obtain ⟨v1, t1, rfl, g1⟩ := fe_tL_d g0
    obtain ⟨v2, t2, rfl, g2⟩ := fe_tI_d g1
    obtain ⟨rfl, hz⟩ := fe_t0_d g2
    exact zX32_isWhole K l v0 v1 v2 M r hz
  have o2 : fs_OS (sX32_write FX32_find FX32_isWhole FX32_isHalf) 2 1 (fs_Con (fk_E s0 H0 oa D) l 1 ⟨"BoardMachine$Signals$Timer", "isHalf", "(JI)Z"⟩ prog_93_method_4_code 4 (Option.some Jvm.ClassFile.FieldType.boolean)) := by
    intro As M r h
    obtain ⟨v0, t0, rfl, g0⟩ := fe_tR_d h
    obtain ⟨v1, t1, rfl, g1⟩ := fe_tL_d g0
    obtain ⟨v2, t2, rfl, g2⟩ := fe_tI_d g1
    obtain ⟨rfl, hz⟩ := fe_t0_d g2
    exact zX32_isHalf K l v0 v1 v2 M r hz
  refine fs_method (own := "BoardMachine$Signals$Timer") rfl (by decide) K.2.1 (by rw [fe_slen]; exact (Nat.le_of_ble_eq_true rfl)) (mX32_write a0 a1 a3 a4 M r h) (hX32_write) 0 rfl (L0 := [(0, .ref a0), (1, .long a1), (3, .int a3), (4, .long a4)]) (fun E => fe_args_e E [.ref a0, .long a1, .int a3, .long a4] 0) ((eX32_write FX32_write_0 FX32_write_33 FX32_write_62 FX32_write_113 FX32_write_117 FX32_write_154 a0 a1 a3 a4 M).trans h) (fe_kv_k r) (fun H hR => fs_nr_o (by decide) (by decide)) ?_
  intro p e s m args below meth c Q C hnm
  have hw : s0.WarmedH s.vm := C.2.2.2.2.1
  refine fe_all C fk_hwr cX32_write [2, 15, 22, 41, 48, 65, 76, 82, 88, 97, 103, 120, 127, 131, 141] (by decide +kernel) (fe_fil (cps := [(2, 5, .invokevirtual 9519184), (15, 18, .invokevirtual 80822352), (22, 25, .getfield 1032126786), (41, 44, .invokevirtual 147931216), (48, 51, .jsr_w (4)), (65, 68, .getfield 1032126786), (76, 79, .getfield 1032126786), (82, 85, .jsr_w (-4294967296)), (88, 91, .jsr_w (4294967295)), (97, 100, .getfield 1032126786), (103, 106, .jsr_w (4294967295)), (120, 123, .invokevirtual 147931216), (127, 130, .jsr_w (4)), (131, 134, .getfield 1023738176), (141, 144, .getfield 1027932482)]) (by decide +kernel) ?_)
  refine fs_c1 (fs_inv_virtual (pc := 2) (n := 9519184) C (Nat.le_of_ble_eq_true rfl) (Nat.le_of_ble_eq_true rfl) (fs_lk_virtual (idx := 35) (y := ⟨"BoardMachine$Signals$Timer", "find", "(J)I"⟩) (bytes := prog_93_method_2_code) (maxL := 5) (rt := (Option.some Jvm.ClassFile.FieldType.int)) (d := 1) C (Nat.le_of_ble_eq_true rfl) (Nat.le_of_ble_eq_true rfl) (by decide +kernel) (kw K hw q3601) (kw K hw q343) (kw K hw q3600) (Or.inl (kw K hw q3598)) ⟨by decide, by decide⟩ rfl (Nat.le_of_ble_eq_true rfl) (Nat.le_of_ble_eq_true rfl) (fs_one (⟨_, rfl, kw K hw qs74⟩))) fs_con_mono o0) ?_
  refine fs_c1 (fs_inv_virtual (pc := 15) (n := 80822352) C (Nat.le_of_ble_eq_true rfl) (Nat.le_of_ble_eq_true rfl) (fs_lk_virtual (idx := 39) (y := ⟨"BoardMachine$Signals$Timer", "isWhole", "(JI)Z"⟩) (bytes := prog_93_method_3_code) (maxL := 4) (rt := (Option.some Jvm.ClassFile.FieldType.boolean)) (d := 1) C (Nat.le_of_ble_eq_true rfl) (Nat.le_of_ble_eq_true rfl) (by decide +kernel) (kw K hw q3608) (kw K hw q343) (kw K hw q3607) (Or.inl (kw K hw q3605)) ⟨by decide, by decide⟩ rfl (Nat.le_of_ble_eq_true rfl) (Nat.le_of_ble_eq_true rfl) (fs_one (⟨_, rfl, kw K hw qs75⟩))) fs_con_mono o1) ?_
  refine fs_c1 (fs_getf (pc := 22) (n := 1032126786) (idx := 17) (ref := "BoardMachine$Signals$Timer") (O := "BoardMachine$Signals$Timer") (name := "numbers") (desc := "[J") C (by decide +kernel) (Or.inl (kw K hw q979)) (fun _ h => h) (Nat.le_of_ble_eq_true rfl) (Nat.le_of_ble_eq_true rfl) (fs_one (⟨_, ff_80_246 s0 H0 oa D⟩))) ?_
  refine fs_c1 (fs_inv_virtual (pc := 41) (n := 147931216) C (Nat.le_of_ble_eq_true rfl) (Nat.le_of_ble_eq_true rfl) (fs_lk_virtual (idx := 43) (y := ⟨"BoardMachine$Signals$Timer", "isHalf", "(JI)Z"⟩) (bytes := prog_93_method_4_code) (maxL := 4) (rt := (Option.some Jvm.ClassFile.FieldType.boolean)) (d := 1) C (Nat.le_of_ble_eq_true rfl) (Nat.le_of_ble_eq_true rfl) (by decide +kernel) (kw K hw q3613) (kw K hw q343) (kw K hw q3612) (Or.inl (kw K hw q3610)) ⟨by decide, by decide⟩ rfl (Nat.le_of_ble_eq_true rfl) (Nat.le_of_ble_eq_true rfl) (fs_one (⟨_, rfl, kw K hw qs76⟩))) fs_con_mono o2) ?_
  refine fs_c1 (fs_ldcl (pc := 48) (idx := 46) (v := 4) C (by decide +kernel) (kw K hw q3615)) ?_
  refine fs_c1 (fs_getf (pc := 65) (n := 1032126786) (idx := 17) (ref := "BoardMachine$Signals$Timer") (O := "BoardMachine$Signals$Timer") (name := "numbers") (desc := "[J") C (by decide +kernel) (Or.inl (kw K hw q979)) (fun _ h => h) (Nat.le_of_ble_eq_true rfl) (Nat.le_of_ble_eq_true rfl) (fs_one (⟨_, ff_80_246 s0 H0 oa D⟩))) ?_
  refine fs_c1 (fs_getf (pc := 76) (n := 1032126786) (idx := 17) (ref := "BoardMachine$Signals$Timer") (O := "BoardMachine$Signals$Timer") (name := "numbers") (desc := "[J") C (by decide +kernel) (Or.inl (kw K hw q979)) (fun _ h => h) (Nat.le_of_ble_eq_true rfl) (Nat.le_of_ble_eq_true rfl) (fs_one (⟨_, ff_80_246 s0 H0 oa D⟩))) ?_
  refine fs_c1 (fs_ldcl (pc := 82) (idx := 50) (v := -4294967296) C (by decide +kernel) (kw K hw q3718)) ?_
  refine fs_c1 (fs_ldcl (pc := 88) (idx := 48) (v := 4294967295) C (by decide +kernel) (kw K hw q3616)) ?_
  refine fs_c1 (fs_getf (pc := 97) (n := 1032126786) (idx := 17) (ref := "BoardMachine$Signals$Timer") (O := "BoardMachine$Signals$Timer") (name := "numbers") (desc := "[J") C (by decide +kernel) (Or.inl (kw K hw q979)) (fun _ h => h) (Nat.le_of_ble_eq_true rfl) (Nat.le_of_ble_eq_true rfl) (fs_one (⟨_, ff_80_246 s0 H0 oa D⟩))) ?_
  refine fs_c1 (fs_ldcl (pc := 103) (idx := 48) (v := 4294967295) C (by decide +kernel) (kw K hw q3616)) ?_
  refine fs_c1 (fs_inv_virtual (pc := 120) (n := 147931216) C (Nat.le_of_ble_eq_true rfl) (Nat.le_of_ble_eq_true rfl) (fs_lk_virtual (idx := 43) (y := ⟨"BoardMachine$Signals$Timer", "isHalf", "(JI)Z"⟩) (bytes := prog_93_method_4_code) (maxL := 4) (rt := (Option.some Jvm.ClassFile.FieldType.boolean)) (d := 1) C (Nat.le_of_ble_eq_true rfl) (Nat.le_of_ble_eq_true rfl) (by decide +kernel) (kw K hw q3613) (kw K hw q343) (kw K hw q3612) (Or.inl (kw K hw q3610)) ⟨by decide, by decide⟩ rfl (Nat.le_of_ble_eq_true rfl) (Nat.le_of_ble_eq_true rfl) (fs_one (⟨_, rfl, kw K hw qs76⟩))) fs_con_mono o2) ?_
  refine fs_c1 (fs_ldcl (pc := 127) (idx := 46) (v := 4) C (by decide +kernel) (kw K hw q3615)) ?_
  refine fs_c1 (fs_getf (pc := 131) (n := 1023738176) (idx := 21) (ref := "BoardMachine$Signals$Timer") (O := "BoardMachine$Signals$Timer") (name := "processors") (desc := "I") C (by decide +kernel) (Or.inl (kw K hw q976)) (fun _ h => h) (Nat.le_of_ble_eq_true rfl) (Nat.le_of_ble_eq_true rfl) (fs_one (⟨_, ff_80_244 s0 H0 oa D⟩))) ?_
  refine fs_c1 (fs_getf (pc := 141) (n := 1027932482) (idx := 9) (ref := "BoardMachine$Signals$Timer") (O := "BoardMachine$Signals$Timer") (name := "soft") (desc := "[I") C (by decide +kernel) (Or.inl (kw K hw q977)) (fun _ h => h) (Nat.le_of_ble_eq_true rfl) (Nat.le_of_ble_eq_true rfl) (fs_one (⟨_, ff_80_245 s0 H0 oa D⟩))) ?_
  exact fs_c0
theorem hX30_write : fe_H (sX30_write FX33_write FX31_write FX32_write FX30_look) cX30_write [0] fe_kv [] 20 (fun _ => dX30_write FX30_write_0) := by
  intro j pc L st M r hc h
  rcases fe_mem_c hc with rfl | hc
  · obtain ⟨w0, m0, h⟩ := fe_lR_d h
    obtain ⟨w1, m1, h⟩ := fe_lI_d h
    obtain ⟨w2, m2, h⟩ := fe_lL_d h
    obtain ⟨w4, m4, h⟩ := fe_lI_d h
    obtain ⟨w5, m5, h⟩ := fe_lL_d h
    obtain ⟨rfl, hz⟩ := fe_t0_d h
    exact ⟨[(0, .ref w0), (1, .int w1), (2, .long w2), (4, .int w4), (5, .long w5)], (fe_cs m0 (fe_cs m1 (fe_cs m2 (fe_cs m4 (fe_cs m5 fe_nl))))), Or.inr ((bX30_write_0 FX33_write FX31_write FX32_write FX30_look FX30_write_0 w0 w1 w2 w4 w5 M).symm.trans hz)⟩
  exact fe_mem_0 hc
theorem vX30_write : fe_SB (sX30_write FX33_write FX31_write FX32_write FX30_look) := by
  refine ⟨?_, ?_, ?_, ?_⟩
  · intro i As M r h
    rcases fe_bc h with h | h
    · obtain ⟨v0, t0, rfl, g0⟩ := fe_tR_d h
      obtain ⟨v1, t1, rfl, g1⟩ := fe_tL_d g0
      obtain ⟨v2, t2, rfl, g2⟩ := fe_tI_d g1
      obtain ⟨v3, t3, rfl, g3⟩ := fe_tL_d g2
      obtain ⟨rfl, hz⟩ := fe_t0_d g3
      exact mX33_write v0 v1 v2 v3 M r hz
    rcases fe_bc h with h | h
    · obtain ⟨v0, t0, rfl, g0⟩ := fe_tR_d h
      obtain ⟨v1, t1, rfl, g1⟩ := fe_tL_d g0
      obtain ⟨v2, t2, rfl, g2⟩ := fe_tI_d g1
      obtain ⟨v3, t3, rfl, g3⟩ := fe_tL_d g2
      obtain ⟨rfl, hz⟩ := fe_t0_d g3
      exact mX31_write v0 v1 v2 v3 M r hz
    rcases fe_bc h with h | h
    · obtain ⟨v0, t0, rfl, g0⟩ := fe_tR_d h
      obtain ⟨v1, t1, rfl, g1⟩ := fe_tL_d g0
      obtain ⟨v2, t2, rfl, g2⟩ := fe_tI_d g1
      obtain ⟨v3, t3, rfl, g3⟩ := fe_tL_d g2
      obtain ⟨rfl, hz⟩ := fe_t0_d g3
      exact mX32_write v0 v1 v2 v3 M r hz
    rcases fe_bc h with h | h
    · obtain ⟨v0, t0, rfl, g0⟩ := fe_tR_d h
      obtain ⟨rfl, hz⟩ := fe_t0_d g0
      exact mX30_look v0 M r hz
    exact fe_no h
  · intro i As M r h
    exact fe_no h
  · intro i As M r h
    exact fe_no h
  · intro i As M r h
    exact fe_no h
theorem eX30_write (g0 : Nat → Int32 → Int64 → Int32 → Int64 → FM → Option (FM)) (a0 : Nat) (a1 : Int32) (a2 : Int64) (a4 : Int32) (a5 : Int64) (M : FM) : dX30_write g0 0 [(0, .ref a0), (1, .int a1), (2, .long a2), (4, .int a4), (5, .long a5)] [] M = g0 a0 a1 a2 a4 a5 M := by rfl
theorem mX30_write (a0 : Nat) (a1 : Int32) (a2 : Int64) (a4 : Int32) (a5 : Int64) (M : FM) (r : FM) (h : FX30_write a0 a1 a2 a4 a5 M = some r) : fm_nx M ≤ fm_nx r ∧ fm_ns M ≤ fm_ns r :=
  fe_mono (L0 := [(0, .ref a0), (1, .int a1), (2, .long a2), (4, .int a4), (5, .long a5)]) (vX30_write) (by decide +kernel) (hX30_write) (fe_kv_k r) 0 rfl ((eX30_write FX30_write_0 a0 a1 a2 a4 a5 M).trans h)
theorem zX30_write {s0 : State} {H0 : Heap} {oa : Nat → Nat} {D : va_G} (K : fk s0 H0 oa D) (l : Launch) (a0 : Nat) (a1 : Int32) (a2 : Int64) (a4 : Int32) (a5 : Int64) (M : FM) (r : FM) (h : FX30_write a0 a1 a2 a4 a5 M = some r) : fs_Con (fk_E s0 H0 oa D) l 5 ⟨"BoardMachine$Signals$SignalUnit", "write", "(IJIJ)V"⟩ prog_92_method_4_code 7 (Option.none : Option Jvm.ClassFile.FieldType) [.ref a0, .int a1, .long a2, .int a4, .long a5] M none r := by
  have o0 : fs_OS (sX30_write FX33_write FX31_write FX32_write FX30_look) 0 0 (fs_Con (fk_E s0 H0 oa D) l 3 ⟨"BoardMachine$Signals$Controller", "write", "(JIJ)V"⟩ prog_89_method_9_code 9 (Option.none : Option Jvm.ClassFile.FieldType)) := by
    intro As M r h
    obtain ⟨v0, t0, rfl, g0⟩ := fe_tR_d h
    obtain ⟨v1, t1, rfl, g1⟩ := fe_tL_d g0
    obtain ⟨v2, t2, rfl, g2⟩ := fe_tI_d g1
    obtain ⟨v3, t3, rfl, g3⟩ := fe_tL_d g2
    obtain ⟨rfl, hz⟩ := fe_t0_d g3
    exact zX33_write K l v0 v1 v2 v3 M r hz
  have o1 : fs_OS (sX30_write FX33_write FX31_write FX32_write FX30_look) 1 0 (fs_Con (fk_E s0 H0 oa D) l 4 ⟨"BoardMachine$Signals$Serial", "write", "(JIJ)V"⟩ prog_91_method_13_code 8 (Option.none : Option Jvm.ClassFile.FieldType)) := by
    intro As M r h
    obtain ⟨v0, t0, rfl, g0⟩ := fe_tR_d h
    obtain ⟨v1, t1, rfl, g1⟩ := fe_tL_d g0
    obtain ⟨v2, t2, rfl, g2⟩ := fe_tI_d g1
    obtain ⟨v3, t3, rfl, g3⟩ := fe_tL_d g2
    obtain ⟨rfl, hz⟩ := fe_t0_d g3
    exact zX31_write K l v0 v1 v2 v3 M r hz
  have o2 : fs_OS (sX30_write FX33_write FX31_write FX32_write FX30_look) 2 0 (fs_Con (fk_E s0 H0 oa D) l 2 ⟨"BoardMachine$Signals$Timer", "write", "(JIJ)V"⟩ prog_93_method_6_code 8 (Option.none : Option Jvm.ClassFile.FieldType)) := by
    intro As M r h
    obtain ⟨v0, t0, rfl, g0⟩ := fe_tR_d h
    obtain ⟨v1, t1, rfl, g1⟩ := fe_tL_d g0
    obtain ⟨v2, t2, rfl, g2⟩ := fe_tI_d g1
    obtain ⟨v3, t3, rfl, g3⟩ := fe_tL_d g2
    obtain ⟨rfl, hz⟩ := fe_t0_d g3
    exact zX32_write K l v0 v1 v2 v3 M r hz
  have o3 : fs_OS (sX30_write FX33_write FX31_write FX32_write FX30_look) 3 0 (fs_Con (fk_E s0 H0 oa D) l 3 ⟨"BoardMachine$Signals$SignalUnit", "look", "()V"⟩ prog_92_method_2_code 1 (Option.none : Option Jvm.ClassFile.FieldType)) := by
    intro As M r h
    obtain ⟨v0, t0, rfl, g0⟩ := fe_tR_d h
    obtain ⟨rfl, hz⟩ := fe_t0_d g0
    exact zX30_look K l v0 M r hz
  refine fs_method (own := "BoardMachine$Signals$SignalUnit") rfl (by decide) K.2.1 (by rw [fe_slen]; exact (Nat.le_of_ble_eq_true rfl)) (mX30_write a0 a1 a2 a4 a5 M r h) (hX30_write) 0 rfl (L0 := [(0, .ref a0), (1, .int a1), (2, .long a2), (4, .int a4), (5, .long a5)]) (fun E => fe_args_e E [.ref a0, .int a1, .long a2, .int a4, .long a5] 0) ((eX30_write FX30_write_0 a0 a1 a2 a4 a5 M).trans h) (fe_kv_k r) (fun H hR => fs_nr_o (by decide) (by decide)) ?_
  intro p e s m args below meth c Q C hnm
  have hw : s0.WarmedH s.vm := C.2.2.2.2.1
  refine fe_all C fk_hwr cX30_write [1, 11, 17] (by decide +kernel) (fe_fil (cps := [(1, 4, .getfield 1019539774), (11, 16, .invokeinterface 0 0), (17, 20, .invokevirtual 205601871)]) (by decide +kernel) ?_)
  refine fs_c1 (fs_getf (pc := 1) (n := 1019539774) (idx := 20) (ref := "BoardMachine$Signals$SignalUnit") (O := "BoardMachine$Signals$SignalUnit") (name := "devices") (desc := "[LBoardMachine$Signals$Device;") C (by decide +kernel) (Or.inl (kw K hw q1024)) (fun _ h => h) (Nat.le_of_ble_eq_true rfl) (Nat.le_of_ble_eq_true rfl) (fs_one (⟨_, ff_79_243 s0 H0 oa D⟩))) ?_
  refine fs_c1 (fs_inv_table (pc := 11) (nx := 16) (i := 0) (k := 0) C rfl (List.forall_mem_cons.mpr ⟨⟨(Nat.le_of_ble_eq_true rfl), (Nat.le_of_ble_eq_true rfl), _, fs_lk_face (idx := 59) (cnt := 6) (x := ⟨"BoardMachine$Signals$Device", "write", "(JIJ)V"⟩) (y := ⟨"BoardMachine$Signals$Controller", "write", "(JIJ)V"⟩) (bytes := prog_89_method_9_code) (maxL := 9) (rt := (Option.none : Option Jvm.ClassFile.FieldType)) (d := 3) C (Nat.le_of_ble_eq_true rfl) (Nat.le_of_ble_eq_true rfl) (by decide +kernel) (kw K hw q3686) (kw K hw q344) (kw K hw q3684) (kw K hw q3679) (kFw (C := "BoardMachine$Signals$Controller") (x := ⟨"BoardMachine$Signals$Device", "write", "(JIJ)V"⟩) (y := ⟨"BoardMachine$Signals$Controller", "write", "(JIJ)V"⟩) (args := args) K hw ⟨by decide, by decide⟩ q3681 q3680 q3685 q3683 q3542).1 (kFw (C := "BoardMachine$Signals$Controller") (x := ⟨"BoardMachine$Signals$Device", "write", "(JIJ)V"⟩) (y := ⟨"BoardMachine$Signals$Controller", "write", "(JIJ)V"⟩) (args := args) K hw ⟨by decide, by decide⟩ q3681 q3680 q3685 q3683 q3542).2.1 (kFw (C := "BoardMachine$Signals$Controller") (x := ⟨"BoardMachine$Signals$Device", "write", "(JIJ)V"⟩) (y := ⟨"BoardMachine$Signals$Controller", "write", "(JIJ)V"⟩) (args := args) K hw ⟨by decide, by decide⟩ q3681 q3680 q3685 q3683 q3542).2.2.1 ⟨by decide, by decide⟩ rfl (Nat.le_of_ble_eq_true rfl) (Nat.le_of_ble_eq_true rfl) (fs_one ⟨_, rfl, kw K hw q3682, (kFw (C := "BoardMachine$Signals$Controller") (x := ⟨"BoardMachine$Signals$Device", "write", "(JIJ)V"⟩) (y := ⟨"BoardMachine$Signals$Controller", "write", "(JIJ)V"⟩) (args := args) K hw ⟨by decide, by decide⟩ q3681 q3680 q3685 q3683 q3542).2.2.2.1, (kFw (C := "BoardMachine$Signals$Controller") (x := ⟨"BoardMachine$Signals$Device", "write", "(JIJ)V"⟩) (y := ⟨"BoardMachine$Signals$Controller", "write", "(JIJ)V"⟩) (args := args) K hw ⟨by decide, by decide⟩ q3681 q3680 q3685 q3683 q3542).2.2.2.2⟩), fs_con_mono, o0⟩, List.forall_mem_cons.mpr ⟨⟨(Nat.le_of_ble_eq_true rfl), (Nat.le_of_ble_eq_true rfl), _, fs_lk_face (idx := 59) (cnt := 6) (x := ⟨"BoardMachine$Signals$Device", "write", "(JIJ)V"⟩) (y := ⟨"BoardMachine$Signals$Serial", "write", "(JIJ)V"⟩) (bytes := prog_91_method_13_code) (maxL := 8) (rt := (Option.none : Option Jvm.ClassFile.FieldType)) (d := 4) C (Nat.le_of_ble_eq_true rfl) (Nat.le_of_ble_eq_true rfl) (by decide +kernel) (kw K hw q3696) (kw K hw q342) (kw K hw q3694) (kw K hw q3679) (kFw (C := "BoardMachine$Signals$Serial") (x := ⟨"BoardMachine$Signals$Device", "write", "(JIJ)V"⟩) (y := ⟨"BoardMachine$Signals$Serial", "write", "(JIJ)V"⟩) (args := args) K hw ⟨by decide, by decide⟩ q3681 q3680 q3695 q3693 q3561).1 (kFw (C := "BoardMachine$Signals$Serial") (x := ⟨"BoardMachine$Signals$Device", "write", "(JIJ)V"⟩) (y := ⟨"BoardMachine$Signals$Serial", "write", "(JIJ)V"⟩) (args := args) K hw ⟨by decide, by decide⟩ q3681 q3680 q3695 q3693 q3561).2.1 (kFw (C := "BoardMachine$Signals$Serial") (x := ⟨"BoardMachine$Signals$Device", "write", "(JIJ)V"⟩) (y := ⟨"BoardMachine$Signals$Serial", "write", "(JIJ)V"⟩) (args := args) K hw ⟨by decide, by decide⟩ q3681 q3680 q3695 q3693 q3561).2.2.1 ⟨by decide, by decide⟩ rfl (Nat.le_of_ble_eq_true rfl) (Nat.le_of_ble_eq_true rfl) (fs_one ⟨_, rfl, kw K hw q3692, (kFw (C := "BoardMachine$Signals$Serial") (x := ⟨"BoardMachine$Signals$Device", "write", "(JIJ)V"⟩) (y := ⟨"BoardMachine$Signals$Serial", "write", "(JIJ)V"⟩) (args := args) K hw ⟨by decide, by decide⟩ q3681 q3680 q3695 q3693 q3561).2.2.2.1, (kFw (C := "BoardMachine$Signals$Serial") (x := ⟨"BoardMachine$Signals$Device", "write", "(JIJ)V"⟩) (y := ⟨"BoardMachine$Signals$Serial", "write", "(JIJ)V"⟩) (args := args) K hw ⟨by decide, by decide⟩ q3681 q3680 q3695 q3693 q3561).2.2.2.2⟩), fs_con_mono, o1⟩, List.forall_mem_cons.mpr ⟨⟨(Nat.le_of_ble_eq_true rfl), (Nat.le_of_ble_eq_true rfl), _, fs_lk_face (idx := 59) (cnt := 6) (x := ⟨"BoardMachine$Signals$Device", "write", "(JIJ)V"⟩) (y := ⟨"BoardMachine$Signals$Timer", "write", "(JIJ)V"⟩) (bytes := prog_93_method_6_code) (maxL := 8) (rt := (Option.none : Option Jvm.ClassFile.FieldType)) (d := 2) C (Nat.le_of_ble_eq_true rfl) (Nat.le_of_ble_eq_true rfl) (by decide +kernel) (kw K hw q3717) (kw K hw q343) (kw K hw q3715) (kw K hw q3679) (kFw (C := "BoardMachine$Signals$Timer") (x := ⟨"BoardMachine$Signals$Device", "write", "(JIJ)V"⟩) (y := ⟨"BoardMachine$Signals$Timer", "write", "(JIJ)V"⟩) (args := args) K hw ⟨by decide, by decide⟩ q3681 q3680 q3716 q3714 q3592).1 (kFw (C := "BoardMachine$Signals$Timer") (x := ⟨"BoardMachine$Signals$Device", "write", "(JIJ)V"⟩) (y := ⟨"BoardMachine$Signals$Timer", "write", "(JIJ)V"⟩) (args := args) K hw ⟨by decide, by decide⟩ q3681 q3680 q3716 q3714 q3592).2.1 (kFw (C := "BoardMachine$Signals$Timer") (x := ⟨"BoardMachine$Signals$Device", "write", "(JIJ)V"⟩) (y := ⟨"BoardMachine$Signals$Timer", "write", "(JIJ)V"⟩) (args := args) K hw ⟨by decide, by decide⟩ q3681 q3680 q3716 q3714 q3592).2.2.1 ⟨by decide, by decide⟩ rfl (Nat.le_of_ble_eq_true rfl) (Nat.le_of_ble_eq_true rfl) (fs_one ⟨_, rfl, kw K hw q3713, (kFw (C := "BoardMachine$Signals$Timer") (x := ⟨"BoardMachine$Signals$Device", "write", "(JIJ)V"⟩) (y := ⟨"BoardMachine$Signals$Timer", "write", "(JIJ)V"⟩) (args := args) K hw ⟨by decide, by decide⟩ q3681 q3680 q3716 q3714 q3592).2.2.2.1, (kFw (C := "BoardMachine$Signals$Timer") (x := ⟨"BoardMachine$Signals$Device", "write", "(JIJ)V"⟩) (y := ⟨"BoardMachine$Signals$Timer", "write", "(JIJ)V"⟩) (args := args) K hw ⟨by decide, by decide⟩ q3681 q3680 q3716 q3714 q3592).2.2.2.2⟩), fs_con_mono, o2⟩, List.forall_mem_nil _⟩⟩⟩)) ?_
  refine fs_c1 (fs_inv_virtual (pc := 17) (n := 205601871) C (Nat.le_of_ble_eq_true rfl) (Nat.le_of_ble_eq_true rfl) (fs_lk_virtual (idx := 56) (y := ⟨"BoardMachine$Signals$SignalUnit", "look", "()V"⟩) (bytes := prog_92_method_2_code) (maxL := 1) (rt := (Option.none : Option Jvm.ClassFile.FieldType)) (d := 3) C (Nat.le_of_ble_eq_true rfl) (Nat.le_of_ble_eq_true rfl) (by decide +kernel) (kw K hw q3620) (kw K hw q341) (kw K hw q3619) (Or.inl (kw K hw q3617)) ⟨by decide, by decide⟩ rfl (Nat.le_of_ble_eq_true rfl) (Nat.le_of_ble_eq_true rfl) (fs_one (⟨_, rfl, kw K hw qs77⟩))) fs_con_mono o3) ?_
  exact fs_c0
theorem hX10_end : fe_H (sX10_end) cX10_end [0, 19, 40, 43] fe_kv [] 29 (fun _ => dX10_end FX10_end_0 FX10_end_19 FX10_end_40 FX10_end_43) := by
  intro j pc L st M r hc h
  rcases fe_mem_c hc with rfl | hc
  · obtain ⟨w0, m0, h⟩ := fe_lR_d h
    obtain ⟨w1, m1, h⟩ := fe_lI_d h
    obtain ⟨rfl, hz⟩ := fe_t0_d h
    exact ⟨[(0, .ref w0), (1, .int w1)], (fe_cs m0 (fe_cs m1 fe_nl)), Or.inr ((bX10_end_0 FX10_end_0 FX10_end_19 FX10_end_40 FX10_end_43 w0 w1 M).symm.trans hz)⟩
  rcases fe_mem_c hc with rfl | hc
  · obtain ⟨w0, m0, h⟩ := fe_lR_d h
    obtain ⟨w1, m1, h⟩ := fe_lI_d h
    obtain ⟨w2, m2, h⟩ := fe_lI_d h
    obtain ⟨rfl, hz⟩ := fe_t0_d h
    exact ⟨[(0, .ref w0), (1, .int w1), (2, .int w2)], (fe_cs m0 (fe_cs m1 (fe_cs m2 fe_nl))), Or.inr ((bX10_end_19 FX10_end_0 FX10_end_19 FX10_end_40 FX10_end_43 w0 w1 w2 M).symm.trans hz)⟩
  rcases fe_mem_c hc with rfl | hc
  · obtain ⟨s1, t1, rfl, g1⟩ := fe_tI_d h
    obtain ⟨s0, t0, rfl, g0⟩ := fe_tR_d g1
    obtain ⟨rfl, hz⟩ := fe_t0_d g0
    exact ⟨[], fe_nl, Or.inr ((bX10_end_40 FX10_end_0 FX10_end_19 FX10_end_40 FX10_end_43 s0 s1 M).symm.trans hz)⟩
  rcases fe_mem_c hc with rfl | hc
  · obtain ⟨rfl, hz⟩ := fe_t0_d h
    exact ⟨[], fe_nl, Or.inr ((bX10_end_43 FX10_end_0 FX10_end_19 FX10_end_40 FX10_end_43 M).symm.trans hz)⟩
  exact fe_mem_0 hc
theorem vX10_end : fe_SB (sX10_end) := by
  refine ⟨?_, ?_, ?_, ?_⟩
  · intro i As M r h
    exact fe_no h
  · intro i As M r h
    exact fe_no h
  · intro i As M r h
    exact fe_no h
  · intro i As M r h
    exact fe_no h
theorem eX10_end (g0 : Nat → Int32 → FM → Option (FM)) (g19 : Nat → Int32 → Int32 → FM → Option (FM)) (g40 : Nat → Int32 → FM → Option (FM)) (g43 : FM → Option (FM)) (a0 : Nat) (a1 : Int32) (M : FM) : dX10_end g0 g19 g40 g43 0 [(0, .ref a0), (1, .int a1)] [] M = g0 a0 a1 M := by rfl
theorem mX10_end (a0 : Nat) (a1 : Int32) (M : FM) (r : FM) (h : FX10_end a0 a1 M = some r) : fm_nx M ≤ fm_nx r ∧ fm_ns M ≤ fm_ns r :=
  fe_mono (L0 := [(0, .ref a0), (1, .int a1)]) (vX10_end) (by decide +kernel) (hX10_end) (fe_kv_k r) 0 rfl ((eX10_end FX10_end_0 FX10_end_19 FX10_end_40 FX10_end_43 a0 a1 M).trans h)
theorem zX10_end {s0 : State} {H0 : Heap} {oa : Nat → Nat} {D : va_G} (K : fk s0 H0 oa D) (l : Launch) (a0 : Nat) (a1 : Int32) (M : FM) (r : FM) (h : FX10_end a0 a1 M = some r) : fs_Con (fk_E s0 H0 oa D) l 1 ⟨"BoardMachine$Board", "end", "(I)V"⟩ prog_2_method_5_code 3 (Option.none : Option Jvm.ClassFile.FieldType) [.ref a0, .int a1] M none r := by
  refine fs_method (own := "BoardMachine$Board") rfl (by decide) K.2.1 (by rw [fe_slen]; exact (Nat.le_of_ble_eq_true rfl)) (mX10_end a0 a1 M r h) (hX10_end) 0 rfl (L0 := [(0, .ref a0), (1, .int a1)]) (fun E => fe_args_e E [.ref a0, .int a1] 0) ((eX10_end FX10_end_0 FX10_end_19 FX10_end_40 FX10_end_43 a0 a1 M).trans h) (fe_kv_k r) (fun H hR => fs_nr_o (by decide) (by decide)) ?_
  intro p e s m args below meth c Q C hnm
  have hw : s0.WarmedH s.vm := C.2.2.2.2.1
  refine fe_all C fk_hwr cX10_end [1, 21, 40] (by decide +kernel) (fe_fil (cps := [(1, 3, .iconst (65535)), (21, 24, .putfield 92319791), (40, 43, .putfield 96514092)]) (by decide +kernel) ?_)
  refine fs_c1 (fs_ldci (pc := 1) (idx := 83) (v := 65535) C (by decide +kernel) (kw K hw q3876)) ?_
  refine fs_c1 (fs_putf (pc := 21) (n := 92319791) (idx := 84) (ref := "BoardMachine$Board") (O := "BoardMachine$Board") (name := "ended") (desc := "Z") (fin := false) (ty := .boolean) C (by decide +kernel) (Or.inl ⟨rfl, Or.inl (kw K hw q1050)⟩) (fun _ h => h) (Nat.le_of_ble_eq_true rfl) (Nat.le_of_ble_eq_true rfl) (Nat.le_of_ble_eq_true rfl) rfl rfl (by decide) (fs_one (⟨rfl, ff_11_22 s0 H0 oa D⟩))) ?_
  refine fs_c1 (fs_putf (pc := 40) (n := 96514092) (idx := 44) (ref := "BoardMachine$Board") (O := "BoardMachine$Board") (name := "code") (desc := "I") (fin := false) (ty := .int) C (by decide +kernel) (Or.inl ⟨rfl, Or.inl (kw K hw q1051)⟩) (fun _ h => h) (Nat.le_of_ble_eq_true rfl) (Nat.le_of_ble_eq_true rfl) (Nat.le_of_ble_eq_true rfl) rfl rfl (by decide) (fs_one (⟨rfl, ff_11_23 s0 H0 oa D⟩))) ?_
  exact fs_c0
