/-! contracts of methods, printed by gen/snd.py -/
set_option maxRecDepth 100000
set_option maxHeartbeats 4000000
theorem hX80_take : fe_H (sX80_take FX77_write FX78_write FX82_write FX77_show FX79_show FX78_show) cX80_take [0, 28, 82, 84] fe_kl [] 50 (fun _ => dX80_take FX80_take_0 FX80_take_28 FX80_take_82 FX80_take_84) := by
  intro j pc L st M r hc h
  rcases fe_mem_c hc with rfl | hc
  · obtain ⟨w0, m0, h⟩ := fe_lR_d h
    obtain ⟨w1, m1, h⟩ := fe_lI_d h
    obtain ⟨w2, m2, h⟩ := fe_lI_d h
    obtain ⟨w3, m3, h⟩ := fe_lL_d h
    obtain ⟨w5, m5, h⟩ := fe_lL_d h
    obtain ⟨rfl, hz⟩ := fe_t0_d h
    exact ⟨[(0, .ref w0), (1, .int w1), (2, .int w2), (3, .long w3), (5, .long w5)], (fe_cs m0 (fe_cs m1 (fe_cs m2 (fe_cs m3 (fe_cs m5 fe_nl))))), Or.inr ((bX80_take_0 FX77_write FX78_write FX82_write FX77_show FX79_show FX78_show FX80_take_0 FX80_take_28 FX80_take_82 FX80_take_84 w0 w1 w2 w3 w5 M).symm.trans hz)⟩
  rcases fe_mem_c hc with rfl | hc
  · obtain ⟨w0, m0, h⟩ := fe_lR_d h
    obtain ⟨w1, m1, h⟩ := fe_lI_d h
    obtain ⟨w2, m2, h⟩ := fe_lI_d h
    obtain ⟨w3, m3, h⟩ := fe_lL_d h
    obtain ⟨s1, t1, rfl, g1⟩ := fe_tL_d h
    obtain ⟨s0, t0, rfl, g0⟩ := fe_tR_d g1
    obtain ⟨rfl, hz⟩ := fe_t0_d g0
    exact ⟨[(0, .ref w0), (1, .int w1), (2, .int w2), (3, .long w3)], (fe_cs m0 (fe_cs m1 (fe_cs m2 (fe_cs m3 fe_nl)))), Or.inr ((bX80_take_28 FX77_write FX78_write FX82_write FX77_show FX79_show FX78_show FX80_take_0 FX80_take_28 FX80_take_82 FX80_take_84 w0 w1 w2 w3 s0 s1 M).symm.trans hz)⟩
  rcases fe_mem_c hc with rfl | hc
  · obtain ⟨w7, m7, h⟩ := fe_lL_d h
    obtain ⟨rfl, hz⟩ := fe_t0_d h
    exact ⟨[(7, .long w7)], (fe_cs m7 fe_nl), Or.inr ((bX80_take_82 FX77_write FX78_write FX82_write FX77_show FX79_show FX78_show FX80_take_0 FX80_take_28 FX80_take_82 FX80_take_84 w7 M).symm.trans hz)⟩
  rcases fe_mem_c hc with rfl | hc
  · obtain ⟨s0, t0, rfl, g0⟩ := fe_tL_d h
    obtain ⟨rfl, hz⟩ := fe_t0_d g0
    exact ⟨[], fe_nl, Or.inr ((bX80_take_84 FX77_write FX78_write FX82_write FX77_show FX79_show FX78_show FX80_take_0 FX80_take_28 FX80_take_82 FX80_take_84 s0 M).symm.trans hz)⟩
  exact fe_mem_0 hc
theorem vX80_take : fe_SB (sX80_take FX77_write FX78_write FX82_write FX77_show FX79_show FX78_show) := by
  refine ⟨?_, ?_, ?_, ?_⟩
  · intro i As M r h
    rcases fe_bc h with h | h
    · obtain ⟨v0, t0, rfl, g0⟩ := fe_tR_d h
      obtain ⟨v1, t1, rfl, g1⟩ := fe_tL_d g0
      obtain ⟨rfl, hz⟩ := fe_t0_d g1
      exact mX77_write v0 v1 M r hz
    rcases fe_bc h with h | h
    · obtain ⟨v0, t0, rfl, g0⟩ := fe_tR_d h
      obtain ⟨v1, t1, rfl, g1⟩ := fe_tL_d g0
      obtain ⟨rfl, hz⟩ := fe_t0_d g1
      exact mX78_write v0 v1 M r hz
    rcases fe_bc h with h | h
    · obtain ⟨v0, t0, rfl, g0⟩ := fe_tR_d h
      obtain ⟨v1, t1, rfl, g1⟩ := fe_tL_d g0
      obtain ⟨rfl, hz⟩ := fe_t0_d g1
      exact mX82_write v0 v1 M r hz
    exact fe_no h
  · intro i As M r h
    exact fe_no h
  · intro i As M r h
    rcases fe_bc h with h | h
    · obtain ⟨v0, t0, rfl, g0⟩ := fe_tR_d h
      obtain ⟨rfl, hz⟩ := fe_t0_d g0
      exact mX77_show v0 M r hz
    rcases fe_bc h with h | h
    · obtain ⟨v0, t0, rfl, g0⟩ := fe_tR_d h
      obtain ⟨rfl, hz⟩ := fe_t0_d g0
      exact mX79_show v0 M r hz
    rcases fe_bc h with h | h
    · obtain ⟨v0, t0, rfl, g0⟩ := fe_tR_d h
      obtain ⟨rfl, hz⟩ := fe_t0_d g0
      exact mX78_show v0 M r hz
    exact fe_no h
  · intro i As M r h
    exact fe_no h
theorem eX80_take (g0 : Nat → Int32 → Int32 → Int64 → Int64 → FM → Option (Int64 × FM)) (g28 : Nat → Int32 → Int32 → Int64 → Nat → Int64 → FM → Option (Int64 × FM)) (g82 : Int64 → FM → Option (Int64 × FM)) (g84 : Int64 → FM → Option (Int64 × FM)) (a0 : Nat) (a1 : Int32) (a2 : Int32) (a3 : Int64) (a5 : Int64) (M : FM) : dX80_take g0 g28 g82 g84 0 [(0, .ref a0), (1, .int a1), (2, .int a2), (3, .long a3), (5, .long a5)] [] M = g0 a0 a1 a2 a3 a5 M := by rfl
theorem mX80_take (a0 : Nat) (a1 : Int32) (a2 : Int32) (a3 : Int64) (a5 : Int64) (M : FM) (r : Int64 × FM) (h : FX80_take a0 a1 a2 a3 a5 M = some r) : fm_nx M ≤ fm_nx r.2 ∧ fm_ns M ≤ fm_ns r.2 :=
  fe_mono (L0 := [(0, .ref a0), (1, .int a1), (2, .int a2), (3, .long a3), (5, .long a5)]) (vX80_take) (by decide +kernel) (hX80_take) (fe_kl_k r) 0 rfl ((eX80_take FX80_take_0 FX80_take_28 FX80_take_82 FX80_take_84 a0 a1 a2 a3 a5 M).trans h)
theorem zX80_take {s0 : State} {H0 : Heap} {oa : Nat → Nat} {D : va_G} (K : fk s0 H0 oa D) (l : Launch) (a0 : Nat) (a1 : Int32) (a2 : Int32) (a3 : Int64) (a5 : Int64) (M : FM) (r : Int64 × FM) (h : FX80_take a0 a1 a2 a3 a5 M = some r) : fs_Con (fk_E s0 H0 oa D) l 4 ⟨"BoardMachine$Controls$TrapBank", "take", "(ZIJJ)J"⟩ prog_12_method_2_code 9 (Option.some Jvm.ClassFile.FieldType.long) [.ref a0, .int a1, .int a2, .long a3, .long a5] M (some (.long r.1)) r.2 := by
  have o0 : fs_OS (sX80_take FX77_write FX78_write FX82_write FX77_show FX79_show FX78_show) 0 0 (fs_Con (fk_E s0 H0 oa D) l 1 ⟨"BoardMachine$Controls$Masked", "write", "(J)V"⟩ prog_6_method_3_code 3 (Option.none : Option Jvm.ClassFile.FieldType)) := by
    intro As M r h
    obtain ⟨v0, t0, rfl, g0⟩ := fe_tR_d h
    obtain ⟨v1, t1, rfl, g1⟩ := fe_tL_d g0
    obtain ⟨rfl, hz⟩ := fe_t0_d g1
    exact zX77_write K l v0 v1 M r hz
  have o1 : fs_OS (sX80_take FX77_write FX78_write FX82_write FX77_show FX79_show FX78_show) 1 0 (fs_Con (fk_E s0 H0 oa D) l 2 ⟨"BoardMachine$Controls$Status", "write", "(J)V"⟩ prog_10_method_8_code 4 (Option.none : Option Jvm.ClassFile.FieldType)) := by
    intro As M r h
    obtain ⟨v0, t0, rfl, g0⟩ := fe_tR_d h
    obtain ⟨v1, t1, rfl, g1⟩ := fe_tL_d g0
    obtain ⟨rfl, hz⟩ := fe_t0_d g1
    exact zX78_write K l v0 v1 M r hz
  have o2 : fs_OS (sX80_take FX77_write FX78_write FX82_write FX77_show FX79_show FX78_show) 2 0 (fs_Con (fk_E s0 H0 oa D) l 2 ⟨"BoardMachine$Controls$TableRegister", "write", "(J)V"⟩ prog_11_method_2_code 4 (Option.none : Option Jvm.ClassFile.FieldType)) := by
    intro As M r h
    obtain ⟨v0, t0, rfl, g0⟩ := fe_tR_d h
    obtain ⟨v1, t1, rfl, g1⟩ := fe_tL_d g0
    obtain ⟨rfl, hz⟩ := fe_t0_d g1
    exact zX82_write K l v0 v1 M r hz
  have o3 : fs_OS (sX80_take FX77_write FX78_write FX82_write FX77_show FX79_show FX78_show) 3 2 (fs_Con (fk_E s0 H0 oa D) l 1 ⟨"BoardMachine$Controls$Masked", "show", "()J"⟩ prog_6_method_2_code 1 (Option.some Jvm.ClassFile.FieldType.long)) := by
    intro As M r h
    obtain ⟨v0, t0, rfl, g0⟩ := fe_tR_d h
    obtain ⟨rfl, hz⟩ := fe_t0_d g0
    exact zX77_show K l v0 M r hz
  have o4 : fs_OS (sX80_take FX77_write FX78_write FX82_write FX77_show FX79_show FX78_show) 4 2 (fs_Con (fk_E s0 H0 oa D) l 1 ⟨"BoardMachine$Controls$Pending", "show", "()J"⟩ prog_7_method_2_code 1 (Option.some Jvm.ClassFile.FieldType.long)) := by
    intro As M r h
    obtain ⟨v0, t0, rfl, g0⟩ := fe_tR_d h
    obtain ⟨rfl, hz⟩ := fe_t0_d g0
    exact zX79_show K l v0 M r hz
  have o5 : fs_OS (sX80_take FX77_write FX78_write FX82_write FX77_show FX79_show FX78_show) 5 2 (fs_Con (fk_E s0 H0 oa D) l 3 ⟨"BoardMachine$Controls$Status", "show", "()J"⟩ prog_10_method_7_code 1 (Option.some Jvm.ClassFile.FieldType.long)) := by
    intro As M r h
    obtain ⟨v0, t0, rfl, g0⟩ := fe_tR_d h
    obtain ⟨rfl, hz⟩ := fe_t0_d g0
    exact zX78_show K l v0 M r hz
  refine fs_method (own := "BoardMachine$Controls$TrapBank") rfl (by decide) K.2.1 (by rw [fe_slen]; exact (Nat.le_of_ble_eq_true rfl)) (mX80_take a0 a1 a2 a3 a5 M r h) (hX80_take) 0 rfl (L0 := [(0, .ref a0), (1, .int a1), (2, .int a2), (3, .long a3), (5, .long a5)]) (fun E => fe_args_e E [.ref a0, .int a1, .int a2, .long a3, .long a5] 0) ((eX80_take FX80_take_0 FX80_take_28 FX80_take_82 FX80_take_84 a0 a1 a2 a3 a5 M).trans h) (fe_kl_k r) (fun H hR => fs_nr_o (by decide) (by decide)) ?_
  intro p e s m args below meth c Q C hnm
  have hw : s0.WarmedH s.vm := C.2.2.2.2.1
  refine fe_all C fk_hwr cX80_take [1, 6, 10, 19, 28, 32, 36, 40, 43, 46, 57, 60, 72] (by decide +kernel) (fe_fil (cps := [(1, 4, .getfield 213991506), (6, 9, .invokeinterface 0 0), (10, 13, .getfield 218185810), (19, 22, .jsr_w (-9223372036854775808)), (28, 31, .invokeinterface 1 0), (32, 35, .getfield 222380114), (36, 39, .invokeinterface 2 0), (40, 43, .getfield 205602898), (43, 46, .invokeinterface 3 0), (46, 49, .jsr_w (-4)), (57, 60, .getfield 205602898), (60, 63, .invokeinterface 4 0), (72, 75, .jsr_w (4))]) (by decide +kernel) ?_)
  refine fs_c1 (fs_getf (pc := 1) (n := 213991506) (idx := 27) (ref := "BoardMachine$Controls$TrapBank") (O := "BoardMachine$Controls$TrapBank") (name := "place") (desc := "LBoardMachine$Controls$Masked;") C (by decide +kernel) (Or.inl (kw K hw q1773)) (fun _ h => h) (Nat.le_of_ble_eq_true rfl) (Nat.le_of_ble_eq_true rfl) (fs_one (⟨_, ff_20_51 s0 H0 oa D⟩))) ?_
  refine fs_c1 (fs_inv_table (pc := 6) (nx := 9) (i := 0) (k := 0) C rfl (List.forall_mem_cons.mpr ⟨⟨(Nat.le_of_ble_eq_true rfl), (Nat.le_of_ble_eq_true rfl), _, fs_lk_up (idx := 41) (x := ⟨"BoardMachine$Controls$Masked", "write", "(J)V"⟩) (owner := "BoardMachine$Controls$Masked") (y := ⟨"BoardMachine$Controls$Masked", "write", "(J)V"⟩) (bytes := prog_6_method_3_code) (maxL := 3) (rt := (Option.none : Option Jvm.ClassFile.FieldType)) (d := 1) C (Nat.le_of_ble_eq_true rfl) (Nat.le_of_ble_eq_true rfl) (by decide +kernel) (kw K hw q2958) (kw K hw q388) (kw K hw q2940) (kw K hw q2939) (kw K hw q2942) (va_Decl.of (kw (args := args) K hw q2940) (kw K hw q2958)) ⟨by decide, by decide⟩ rfl (Nat.le_of_ble_eq_true rfl) (Nat.le_of_ble_eq_true rfl) (fs_one (⟨_, rfl, kw K hw q2941⟩)), fs_con_mono, o0⟩, List.forall_mem_cons.mpr ⟨⟨(Nat.le_of_ble_eq_true rfl), (Nat.le_of_ble_eq_true rfl), _, fs_lk_up (idx := 41) (x := ⟨"BoardMachine$Controls$Masked", "write", "(J)V"⟩) (owner := "BoardMachine$Controls$Masked") (y := ⟨"BoardMachine$Controls$Masked", "write", "(J)V"⟩) (bytes := prog_6_method_3_code) (maxL := 3) (rt := (Option.none : Option Jvm.ClassFile.FieldType)) (d := 1) C (Nat.le_of_ble_eq_true rfl) (Nat.le_of_ble_eq_true rfl) (by decide +kernel) (kw K hw q2958) (kw K hw q388) (kw K hw q2940) (kw K hw q2939) (kw K hw q2942) (va_Decl.of (kw (args := args) K hw q2940) (kw K hw q2958)) ⟨by decide, by decide⟩ rfl (Nat.le_of_ble_eq_true rfl) (Nat.le_of_ble_eq_true rfl) (fs_one (⟨_, rfl, kw K hw q2943⟩)), fs_con_mono, o0⟩, List.forall_mem_cons.mpr ⟨⟨(Nat.le_of_ble_eq_true rfl), (Nat.le_of_ble_eq_true rfl), _, fs_lk_up (idx := 41) (x := ⟨"BoardMachine$Controls$Masked", "write", "(J)V"⟩) (owner := "BoardMachine$Controls$Masked") (y := ⟨"BoardMachine$Controls$Status", "write", "(J)V"⟩) (bytes := prog_10_method_8_code) (maxL := 4) (rt := (Option.none : Option Jvm.ClassFile.FieldType)) (d := 2) C (Nat.le_of_ble_eq_true rfl) (Nat.le_of_ble_eq_true rfl) (by decide +kernel) (kw K hw q2946) (kw K hw q389) (kw K hw q2945) (kw K hw q2939) (kw K hw q2942) (va_Decl.of (kw (args := args) K hw q2940) (kw K hw q2958)) ⟨by decide, by decide⟩ rfl (Nat.le_of_ble_eq_true rfl) (Nat.le_of_ble_eq_true rfl) (fs_one (⟨_, rfl, kw K hw q2944⟩)), fs_con_mono, o1⟩, List.forall_mem_cons.mpr ⟨⟨(Nat.le_of_ble_eq_true rfl), (Nat.le_of_ble_eq_true rfl), _, fs_lk_up (idx := 41) (x := ⟨"BoardMachine$Controls$Masked", "write", "(J)V"⟩) (owner := "BoardMachine$Controls$Masked") (y := ⟨"BoardMachine$Controls$TableRegister", "write", "(J)V"⟩) (bytes := prog_11_method_2_code) (maxL := 4) (rt := (Option.none : Option Jvm.ClassFile.FieldType)) (d := 2) C (Nat.le_of_ble_eq_true rfl) (Nat.le_of_ble_eq_true rfl) (by decide +kernel) (kw K hw q2956) (kw K hw q393) (kw K hw q2955) (kw K hw q2939) (kw K hw q2942) (va_Decl.of (kw (args := args) K hw q2940) (kw K hw q2958)) ⟨by decide, by decide⟩ rfl (Nat.le_of_ble_eq_true rfl) (Nat.le_of_ble_eq_true rfl) (fs_one (⟨_, rfl, kw K hw q2954⟩)), fs_con_mono, o2⟩, List.forall_mem_nil _⟩⟩⟩⟩)) ?_
  refine fs_c1 (fs_getf (pc := 10) (n := 218185810) (idx := 30) (ref := "BoardMachine$Controls$TrapBank") (O := "BoardMachine$Controls$TrapBank") (name := "cause") (desc := "LBoardMachine$Controls$Masked;") C (by decide +kernel) (Or.inl (kw K hw q1776)) (fun _ h => h) (Nat.le_of_ble_eq_true rfl) (Nat.le_of_ble_eq_true rfl) (fs_one (⟨_, ff_20_52 s0 H0 oa D⟩))) ?_
  refine fs_c1 (fs_ldcl (pc := 19) (idx := 46) (v := -9223372036854775808) C (by decide +kernel) (kw K hw q2960)) ?_
  refine fs_c1 (fs_inv_table (pc := 28) (nx := 31) (i := 1) (k := 0) C rfl (List.forall_mem_cons.mpr ⟨⟨(Nat.le_of_ble_eq_true rfl), (Nat.le_of_ble_eq_true rfl), _, fs_lk_up (idx := 41) (x := ⟨"BoardMachine$Controls$Masked", "write", "(J)V"⟩) (owner := "BoardMachine$Controls$Masked") (y := ⟨"BoardMachine$Controls$Masked", "write", "(J)V"⟩) (bytes := prog_6_method_3_code) (maxL := 3) (rt := (Option.none : Option Jvm.ClassFile.FieldType)) (d := 1) C (Nat.le_of_ble_eq_true rfl) (Nat.le_of_ble_eq_true rfl) (by decide +kernel) (kw K hw q2958) (kw K hw q388) (kw K hw q2940) (kw K hw q2939) (kw K hw q2942) (va_Decl.of (kw (args := args) K hw q2940) (kw K hw q2958)) ⟨by decide, by decide⟩ rfl (Nat.le_of_ble_eq_true rfl) (Nat.le_of_ble_eq_true rfl) (fs_one (⟨_, rfl, kw K hw q2941⟩)), fs_con_mono, o0⟩, List.forall_mem_cons.mpr ⟨⟨(Nat.le_of_ble_eq_true rfl), (Nat.le_of_ble_eq_true rfl), _, fs_lk_up (idx := 41) (x := ⟨"BoardMachine$Controls$Masked", "write", "(J)V"⟩) (owner := "BoardMachine$Controls$Masked") (y := ⟨"BoardMachine$Controls$Masked", "write", "(J)V"⟩) (bytes := prog_6_method_3_code) (maxL := 3) (rt := (Option.none : Option Jvm.ClassFile.FieldType)) (d := 1) C (Nat.le_of_ble_eq_true rfl) (Nat.le_of_ble_eq_true rfl) (by decide +kernel) (kw K hw q2958) (kw K hw q388) (kw K hw q2940) (kw K hw q2939) (kw K hw q2942) (va_Decl.of (kw (args := args) K hw q2940) (kw K hw q2958)) ⟨by decide, by decide⟩ rfl (Nat.le_of_ble_eq_true rfl) (Nat.le_of_ble_eq_true rfl) (fs_one (⟨_, rfl, kw K hw q2943⟩)), fs_con_mono, o0⟩, List.forall_mem_cons.mpr ⟨⟨(Nat.le_of_ble_eq_true rfl), (Nat.le_of_ble_eq_true rfl), _, fs_lk_up (idx := 41) (x := ⟨"BoardMachine$Controls$Masked", "write", "(J)V"⟩) (owner := "BoardMachine$Controls$Masked") (y := ⟨"BoardMachine$Controls$Status", "write", "(J)V"⟩) (bytes := prog_10_method_8_code) (maxL := 4) (rt := (Option.none : Option Jvm.ClassFile.FieldType)) (d := 2) C (Nat.le_of_ble_eq_true rfl) (Nat.le_of_ble_eq_true rfl) (by decide +kernel) (kw K hw q2946) (kw K hw q389) (kw K hw q2945) (kw K hw q2939) (kw K hw q2942) (va_Decl.of (kw (args := args) K hw q2940) (kw K hw q2958)) ⟨by decide, by decide⟩ rfl (Nat.le_of_ble_eq_true rfl) (Nat.le_of_ble_eq_true rfl) (fs_one (⟨_, rfl, kw K hw q2944⟩)), fs_con_mono, o1⟩, List.forall_mem_cons.mpr ⟨⟨(Nat.le_of_ble_eq_true rfl), (Nat.le_of_ble_eq_true rfl), _, fs_lk_up (idx := 41) (x := ⟨"BoardMachine$Controls$Masked", "write", "(J)V"⟩) (owner := "BoardMachine$Controls$Masked") (y := ⟨"BoardMachine$Controls$TableRegister", "write", "(J)V"⟩) (bytes := prog_11_method_2_code) (maxL := 4) (rt := (Option.none : Option Jvm.ClassFile.FieldType)) (d := 2) C (Nat.le_of_ble_eq_true rfl) (Nat.le_of_ble_eq_true rfl) (by decide +kernel) (kw K hw q2956) (kw K hw q393) (kw K hw q2955) (kw K hw q2939) (kw K hw q2942) (va_Decl.of (kw (args := args) K hw q2940) (kw K hw q2958)) ⟨by decide, by decide⟩ rfl (Nat.le_of_ble_eq_true rfl) (Nat.le_of_ble_eq_true rfl) (fs_one (⟨_, rfl, kw K hw q2954⟩)), fs_con_mono, o2⟩, List.forall_mem_nil _⟩⟩⟩⟩)) ?_
  refine fs_c1 (fs_getf (pc := 32) (n := 222380114) (idx := 33) (ref := "BoardMachine$Controls$TrapBank") (O := "BoardMachine$Controls$TrapBank") (name := "value") (desc := "LBoardMachine$Controls$Masked;") C (by decide +kernel) (Or.inl (kw K hw q1779)) (fun _ h => h) (Nat.le_of_ble_eq_true rfl) (Nat.le_of_ble_eq_true rfl) (fs_one (⟨_, ff_20_53 s0 H0 oa D⟩))) ?_
  refine fs_c1 (fs_inv_table (pc := 36) (nx := 39) (i := 2) (k := 0) C rfl (List.forall_mem_cons.mpr ⟨⟨(Nat.le_of_ble_eq_true rfl), (Nat.le_of_ble_eq_true rfl), _, fs_lk_up (idx := 41) (x := ⟨"BoardMachine$Controls$Masked", "write", "(J)V"⟩) (owner := "BoardMachine$Controls$Masked") (y := ⟨"BoardMachine$Controls$Masked", "write", "(J)V"⟩) (bytes := prog_6_method_3_code) (maxL := 3) (rt := (Option.none : Option Jvm.ClassFile.FieldType)) (d := 1) C (Nat.le_of_ble_eq_true rfl) (Nat.le_of_ble_eq_true rfl) (by decide +kernel) (kw K hw q2958) (kw K hw q388) (kw K hw q2940) (kw K hw q2939) (kw K hw q2942) (va_Decl.of (kw (args := args) K hw q2940) (kw K hw q2958)) ⟨by decide, by decide⟩ rfl (Nat.le_of_ble_eq_true rfl) (Nat.le_of_ble_eq_true rfl) (fs_one (⟨_, rfl, kw K hw q2941⟩)), fs_con_mono, o0⟩, List.forall_mem_cons.mpr ⟨⟨(Nat.le_of_ble_eq_true rfl), (Nat.le_of_ble_eq_true rfl), _, fs_lk_up (idx := 41) (x := ⟨"BoardMachine$Controls$Masked", "write", "(J)V"⟩) (owner := "BoardMachine$Controls$Masked") (y := ⟨"BoardMachine$Controls$Masked", "write", "(J)V"⟩) (bytes := prog_6_method_3_code) (maxL := 3) (rt := (Option.none : Option Jvm.ClassFile.FieldType)) (d := 1) C (Nat.le_of_ble_eq_true rfl) (Nat.le_of_ble_eq_true rfl) (by decide +kernel) (kw K hw q2958) (kw K hw q388) (kw K hw q2940) (kw K hw q2939) (kw K hw q2942) (va_Decl.of (kw (args := args) K hw q2940) (kw K hw q2958)) ⟨by decide, by decide⟩ rfl (Nat.le_of_ble_eq_true rfl) (Nat.le_of_ble_eq_true rfl) (fs_one (⟨_, rfl, kw K hw q2943⟩)), fs_con_mono, o0⟩, List.forall_mem_cons.mpr ⟨⟨(Nat.le_of_ble_eq_true rfl), (Nat.le_of_ble_eq_true rfl), _, fs_lk_up (idx := 41) (x := ⟨"BoardMachine$Controls$Masked", "write", "(J)V"⟩) (owner := "BoardMachine$Controls$Masked") (y := ⟨"BoardMachine$Controls$Status", "write", "(J)V"⟩) (bytes := prog_10_method_8_code) (maxL := 4) (rt := (Option.none : Option Jvm.ClassFile.FieldType)) (d := 2) C (Nat.le_of_ble_eq_true rfl) (Nat.le_of_ble_eq_true rfl) (by decide +kernel) (kw K hw q2946) (kw K hw q389) (kw K hw q2945) (kw K hw q2939) (kw K hw q2942) (va_Decl.of (kw (args := args) K hw q2940) (kw K hw q2958)) ⟨by decide, by decide⟩ rfl (Nat.le_of_ble_eq_true rfl) (Nat.le_of_ble_eq_true rfl) (fs_one (⟨_, rfl, kw K hw q2944⟩)), fs_con_mono, o1⟩, List.forall_mem_cons.mpr ⟨⟨(Nat.le_of_ble_eq_true rfl), (Nat.le_of_ble_eq_true rfl), _, fs_lk_up (idx := 41) (x := ⟨"BoardMachine$Controls$Masked", "write", "(J)V"⟩) (owner := "BoardMachine$Controls$Masked") (y := ⟨"BoardMachine$Controls$TableRegister", "write", "(J)V"⟩) (bytes := prog_11_method_2_code) (maxL := 4) (rt := (Option.none : Option Jvm.ClassFile.FieldType)) (d := 2) C (Nat.le_of_ble_eq_true rfl) (Nat.le_of_ble_eq_true rfl) (by decide +kernel) (kw K hw q2956) (kw K hw q393) (kw K hw q2955) (kw K hw q2939) (kw K hw q2942) (va_Decl.of (kw (args := args) K hw q2940) (kw K hw q2958)) ⟨by decide, by decide⟩ rfl (Nat.le_of_ble_eq_true rfl) (Nat.le_of_ble_eq_true rfl) (fs_one (⟨_, rfl, kw K hw q2954⟩)), fs_con_mono, o2⟩, List.forall_mem_nil _⟩⟩⟩⟩)) ?_
  refine fs_c1 (fs_getf (pc := 40) (n := 205602898) (idx := 14) (ref := "BoardMachine$Controls$TrapBank") (O := "BoardMachine$Controls$TrapBank") (name := "vectors") (desc := "LBoardMachine$Controls$Masked;") C (by decide +kernel) (Or.inl (kw K hw q1767)) (fun _ h => h) (Nat.le_of_ble_eq_true rfl) (Nat.le_of_ble_eq_true rfl) (fs_one (⟨_, ff_20_49 s0 H0 oa D⟩))) ?_
  refine fs_c1 (fs_inv_table (pc := 43) (nx := 46) (i := 3) (k := 0) C rfl (List.forall_mem_cons.mpr ⟨⟨(Nat.le_of_ble_eq_true rfl), (Nat.le_of_ble_eq_true rfl), _, fs_lk_up (idx := 48) (x := ⟨"BoardMachine$Controls$Masked", "show", "()J"⟩) (owner := "BoardMachine$Controls$Masked") (y := ⟨"BoardMachine$Controls$Masked", "show", "()J"⟩) (bytes := prog_6_method_2_code) (maxL := 1) (rt := (Option.some Jvm.ClassFile.FieldType.long)) (d := 1) C (Nat.le_of_ble_eq_true rfl) (Nat.le_of_ble_eq_true rfl) (by decide +kernel) (kw K hw q2913) (kw K hw q388) (kw K hw q2895) (kw K hw q2961) (kw K hw q2897) (va_Decl.of (kw (args := args) K hw q2895) (kw K hw q2913)) ⟨by decide, by decide⟩ rfl (Nat.le_of_ble_eq_true rfl) (Nat.le_of_ble_eq_true rfl) (fs_one (⟨_, rfl, kw K hw q2896⟩)), fs_con_mono, o3⟩, List.forall_mem_cons.mpr ⟨⟨(Nat.le_of_ble_eq_true rfl), (Nat.le_of_ble_eq_true rfl), _, fs_lk_up (idx := 48) (x := ⟨"BoardMachine$Controls$Masked", "show", "()J"⟩) (owner := "BoardMachine$Controls$Masked") (y := ⟨"BoardMachine$Controls$Pending", "show", "()J"⟩) (bytes := prog_7_method_2_code) (maxL := 1) (rt := (Option.some Jvm.ClassFile.FieldType.long)) (d := 1) C (Nat.le_of_ble_eq_true rfl) (Nat.le_of_ble_eq_true rfl) (by decide +kernel) (kw K hw q2893) (kw K hw q390) (kw K hw q2891) (kw K hw q2961) (kw K hw q2897) (va_Decl.of (kw (args := args) K hw q2895) (kw K hw q2913)) ⟨by decide, by decide⟩ rfl (Nat.le_of_ble_eq_true rfl) (Nat.le_of_ble_eq_true rfl) (fs_one (⟨_, rfl, kw K hw q2898⟩)), fs_con_mono, o4⟩, List.forall_mem_cons.mpr ⟨⟨(Nat.le_of_ble_eq_true rfl), (Nat.le_of_ble_eq_true rfl), _, fs_lk_up (idx := 48) (x := ⟨"BoardMachine$Controls$Masked", "show", "()J"⟩) (owner := "BoardMachine$Controls$Masked") (y := ⟨"BoardMachine$Controls$Status", "show", "()J"⟩) (bytes := prog_10_method_7_code) (maxL := 1) (rt := (Option.some Jvm.ClassFile.FieldType.long)) (d := 3) C (Nat.le_of_ble_eq_true rfl) (Nat.le_of_ble_eq_true rfl) (by decide +kernel) (kw K hw q2901) (kw K hw q389) (kw K hw q2900) (kw K hw q2961) (kw K hw q2897) (va_Decl.of (kw (args := args) K hw q2895) (kw K hw q2913)) ⟨by decide, by decide⟩ rfl (Nat.le_of_ble_eq_true rfl) (Nat.le_of_ble_eq_true rfl) (fs_one (⟨_, rfl, kw K hw q2899⟩)), fs_con_mono, o5⟩, List.forall_mem_cons.mpr ⟨⟨(Nat.le_of_ble_eq_true rfl), (Nat.le_of_ble_eq_true rfl), _, fs_lk_up (idx := 48) (x := ⟨"BoardMachine$Controls$Masked", "show", "()J"⟩) (owner := "BoardMachine$Controls$Masked") (y := ⟨"BoardMachine$Controls$Masked", "show", "()J"⟩) (bytes := prog_6_method_2_code) (maxL := 1) (rt := (Option.some Jvm.ClassFile.FieldType.long)) (d := 1) C (Nat.le_of_ble_eq_true rfl) (Nat.le_of_ble_eq_true rfl) (by decide +kernel) (kw K hw q2913) (kw K hw q388) (kw K hw q2895) (kw K hw q2961) (kw K hw q2897) (va_Decl.of (kw (args := args) K hw q2895) (kw K hw q2913)) ⟨by decide, by decide⟩ rfl (Nat.le_of_ble_eq_true rfl) (Nat.le_of_ble_eq_true rfl) (fs_one (⟨_, rfl, kw K hw q2912⟩)), fs_con_mono, o3⟩, List.forall_mem_nil _⟩⟩⟩⟩)) ?_
  refine fs_c1 (fs_ldcl (pc := 46) (idx := 52) (v := -4) C (by decide +kernel) (kw K hw q2962)) ?_
  refine fs_c1 (fs_getf (pc := 57) (n := 205602898) (idx := 14) (ref := "BoardMachine$Controls$TrapBank") (O := "BoardMachine$Controls$TrapBank") (name := "vectors") (desc := "LBoardMachine$Controls$Masked;") C (by decide +kernel) (Or.inl (kw K hw q1767)) (fun _ h => h) (Nat.le_of_ble_eq_true rfl) (Nat.le_of_ble_eq_true rfl) (fs_one (⟨_, ff_20_49 s0 H0 oa D⟩))) ?_
  refine fs_c1 (fs_inv_table (pc := 60) (nx := 63) (i := 4) (k := 0) C rfl (List.forall_mem_cons.mpr ⟨⟨(Nat.le_of_ble_eq_true rfl), (Nat.le_of_ble_eq_true rfl), _, fs_lk_up (idx := 48) (x := ⟨"BoardMachine$Controls$Masked", "show", "()J"⟩) (owner := "BoardMachine$Controls$Masked") (y := ⟨"BoardMachine$Controls$Masked", "show", "()J"⟩) (bytes := prog_6_method_2_code) (maxL := 1) (rt := (Option.some Jvm.ClassFile.FieldType.long)) (d := 1) C (Nat.le_of_ble_eq_true rfl) (Nat.le_of_ble_eq_true rfl) (by decide +kernel) (kw K hw q2913) (kw K hw q388) (kw K hw q2895) (kw K hw q2961) (kw K hw q2897) (va_Decl.of (kw (args := args) K hw q2895) (kw K hw q2913)) ⟨by decide, by decide⟩ rfl (Nat.le_of_ble_eq_true rfl) (Nat.le_of_ble_eq_true rfl) (fs_one (⟨_, rfl, kw K hw q2896⟩)), fs_con_mono, o3⟩, List.forall_mem_cons.mpr ⟨⟨(Nat.le_of_ble_eq_true rfl), (Nat.le_of_ble_eq_true rfl), _, fs_lk_up (idx := 48) (x := ⟨"BoardMachine$Controls$Masked", "show", "()J"⟩) (owner := "BoardMachine$Controls$Masked") (y := ⟨"BoardMachine$Controls$Pending", "show", "()J"⟩) (bytes := prog_7_method_2_code) (maxL := 1) (rt := (Option.some Jvm.ClassFile.FieldType.long)) (d := 1) C (Nat.le_of_ble_eq_true rfl) (Nat.le_of_ble_eq_true rfl) (by decide +kernel) (kw K hw q2893) (kw K hw q390) (kw K hw q2891) (kw K hw q2961) (kw K hw q2897) (va_Decl.of (kw (args := args) K hw q2895) (kw K hw q2913)) ⟨by decide, by decide⟩ rfl (Nat.le_of_ble_eq_true rfl) (Nat.le_of_ble_eq_true rfl) (fs_one (⟨_, rfl, kw K hw q2898⟩)), fs_con_mono, o4⟩, List.forall_mem_cons.mpr ⟨⟨(Nat.le_of_ble_eq_true rfl), (Nat.le_of_ble_eq_true rfl), _, fs_lk_up (idx := 48) (x := ⟨"BoardMachine$Controls$Masked", "show", "()J"⟩) (owner := "BoardMachine$Controls$Masked") (y := ⟨"BoardMachine$Controls$Status", "show", "()J"⟩) (bytes := prog_10_method_7_code) (maxL := 1) (rt := (Option.some Jvm.ClassFile.FieldType.long)) (d := 3) C (Nat.le_of_ble_eq_true rfl) (Nat.le_of_ble_eq_true rfl) (by decide +kernel) (kw K hw q2901) (kw K hw q389) (kw K hw q2900) (kw K hw q2961) (kw K hw q2897) (va_Decl.of (kw (args := args) K hw q2895) (kw K hw q2913)) ⟨by decide, by decide⟩ rfl (Nat.le_of_ble_eq_true rfl) (Nat.le_of_ble_eq_true rfl) (fs_one (⟨_, rfl, kw K hw q2899⟩)), fs_con_mono, o5⟩, List.forall_mem_cons.mpr ⟨⟨(Nat.le_of_ble_eq_true rfl), (Nat.le_of_ble_eq_true rfl), _, fs_lk_up (idx := 48) (x := ⟨"BoardMachine$Controls$Masked", "show", "()J"⟩) (owner := "BoardMachine$Controls$Masked") (y := ⟨"BoardMachine$Controls$Masked", "show", "()J"⟩) (bytes := prog_6_method_2_code) (maxL := 1) (rt := (Option.some Jvm.ClassFile.FieldType.long)) (d := 1) C (Nat.le_of_ble_eq_true rfl) (Nat.le_of_ble_eq_true rfl) (by decide +kernel) (kw K hw q2913) (kw K hw q388) (kw K hw q2895) (kw K hw q2961) (kw K hw q2897) (va_Decl.of (kw (args := args) K hw q2895) (kw K hw q2913)) ⟨by decide, by decide⟩ rfl (Nat.le_of_ble_eq_true rfl) (Nat.le_of_ble_eq_true rfl) (fs_one (⟨_, rfl, kw K hw q2912⟩)), fs_con_mono, o3⟩, List.forall_mem_nil _⟩⟩⟩⟩)) ?_
  refine fs_c1 (fs_ldcl (pc := 72) (idx := 54) (v := 4) C (by decide +kernel) (kw K hw q2963)) ?_
  exact fs_c0
theorem hX78_put : fe_H (sX78_put) cX78_put [0, 28] fe_kv [] 25 (fun _ => dX78_put FX78_put_0 FX78_put_28) := by
  intro j pc L st M r hc h
  rcases fe_mem_c hc with rfl | hc
  · obtain ⟨w0, m0, h⟩ := fe_lR_d h
    obtain ⟨w1, m1, h⟩ := fe_lI_d h
    obtain ⟨w2, m2, h⟩ := fe_lI_d h
    obtain ⟨rfl, hz⟩ := fe_t0_d h
    exact ⟨[(0, .ref w0), (1, .int w1), (2, .int w2)], (fe_cs m0 (fe_cs m1 (fe_cs m2 fe_nl))), Or.inr ((bX78_put_0 FX78_put_0 FX78_put_28 w0 w1 w2 M).symm.trans hz)⟩
  rcases fe_mem_c hc with rfl | hc
  · obtain ⟨s1, t1, rfl, g1⟩ := fe_tL_d h
    obtain ⟨s0, t0, rfl, g0⟩ := fe_tR_d g1
    obtain ⟨rfl, hz⟩ := fe_t0_d g0
    exact ⟨[], fe_nl, Or.inr ((bX78_put_28 FX78_put_0 FX78_put_28 s0 s1 M).symm.trans hz)⟩
  exact fe_mem_0 hc
theorem vX78_put : fe_SB (sX78_put) := by
  refine ⟨?_, ?_, ?_, ?_⟩
  · intro i As M r h
    exact fe_no h
  · intro i As M r h
    exact fe_no h
  · intro i As M r h
    exact fe_no h
  · intro i As M r h
    exact fe_no h
theorem eX78_put (g0 : Nat → Int32 → Int32 → FM → Option (FM)) (g28 : Nat → Int64 → FM → Option (FM)) (a0 : Nat) (a1 : Int32) (a2 : Int32) (M : FM) : dX78_put g0 g28 0 [(0, .ref a0), (1, .int a1), (2, .int a2)] [] M = g0 a0 a1 a2 M := by rfl
theorem mX78_put (a0 : Nat) (a1 : Int32) (a2 : Int32) (M : FM) (r : FM) (h : FX78_put a0 a1 a2 M = some r) : fm_nx M ≤ fm_nx r ∧ fm_ns M ≤ fm_ns r :=
  fe_mono (L0 := [(0, .ref a0), (1, .int a1), (2, .int a2)]) (vX78_put) (by decide +kernel) (hX78_put) (fe_kv_k r) 0 rfl ((eX78_put FX78_put_0 FX78_put_28 a0 a1 a2 M).trans h)
theorem zX78_put {s0 : State} {H0 : Heap} {oa : Nat → Nat} {D : va_G} (K : fk s0 H0 oa D) (l : Launch) (a0 : Nat) (a1 : Int32) (a2 : Int32) (M : FM) (r : FM) (h : FX78_put a0 a1 a2 M = some r) : fs_Con (fk_E s0 H0 oa D) l 1 ⟨"BoardMachine$Controls$Status", "put", "(IZ)V"⟩ prog_10_method_3_code 3 (Option.none : Option Jvm.ClassFile.FieldType) [.ref a0, .int a1, .int a2] M none r := by
  refine fs_method (own := "BoardMachine$Controls$Status") rfl (by decide) K.2.1 (by rw [fe_slen]; exact (Nat.le_of_ble_eq_true rfl)) (mX78_put a0 a1 a2 M r h) (hX78_put) 0 rfl (L0 := [(0, .ref a0), (1, .int a1), (2, .int a2)]) (fun E => fe_args_e E [.ref a0, .int a1, .int a2] 0) ((eX78_put FX78_put_0 FX78_put_28 a0 a1 a2 M).trans h) (fe_kv_k r) (fun H hR => fs_nr_o (by decide) (by decide)) ?_
  intro p e s m args below meth c Q C hnm
  have hw : s0.WarmedH s.vm := C.2.2.2.2.1
  refine fe_all C fk_hwr cX78_put [6, 17, 23, 28] (by decide +kernel) (fe_fil (cps := [(6, 9, .getfield 172032065), (17, 20, .getfield 172032065), (23, 26, .jsr_w (-1)), (28, 31, .putfield 172032065)]) (by decide +kernel) ?_)
  refine fs_c1 (fs_getf (pc := 6) (n := 172032065) (idx := 11) (ref := "BoardMachine$Controls$Status") (O := "BoardMachine$Controls$Masked") (name := "held") (desc := "J") C (by decide +kernel) (Or.inl (kw K hw q1719)) (fs_sameF (kw (args := args) K hw q1720)) (Nat.le_of_ble_eq_true rfl) (Nat.le_of_ble_eq_true rfl) (fs_one (⟨_, ff_16_41 s0 H0 oa D⟩))) ?_
  refine fs_c1 (fs_getf (pc := 17) (n := 172032065) (idx := 11) (ref := "BoardMachine$Controls$Status") (O := "BoardMachine$Controls$Masked") (name := "held") (desc := "J") C (by decide +kernel) (Or.inl (kw K hw q1719)) (fs_sameF (kw (args := args) K hw q1720)) (Nat.le_of_ble_eq_true rfl) (Nat.le_of_ble_eq_true rfl) (fs_one (⟨_, ff_16_41 s0 H0 oa D⟩))) ?_
  refine fs_c1 (fs_ldcl (pc := 23) (idx := 17) (v := -1) C (by decide +kernel) (kw K hw q2953)) ?_
  refine fs_c1 (fs_putf (pc := 28) (n := 172032065) (idx := 11) (ref := "BoardMachine$Controls$Status") (O := "BoardMachine$Controls$Masked") (name := "held") (desc := "J") (fin := false) (ty := .long) C (by decide +kernel) (Or.inl ⟨rfl, Or.inl (kw K hw q1719)⟩) (fs_sameF (kw (args := args) K hw q1720)) (Nat.le_of_ble_eq_true rfl) (Nat.le_of_ble_eq_true rfl) (Nat.le_of_ble_eq_true rfl) rfl rfl (by decide) (fs_one (⟨rfl, ff_16_41 s0 H0 oa D⟩))) ?_
  exact fs_c0
theorem hX74_trap : fe_H (sX74_trap FX77_show FX79_show FX78_show FX80_take FX78_putTwo FX78_has FX78_put) cX74_trap [0, 21, 77, 113, 173] fe_kl [] 98 (fun _ => dX74_trap FX74_trap_0 FX74_trap_21 FX74_trap_77 FX74_trap_113 FX74_trap_173) := by
  intro j pc L st M r hc h
  rcases fe_mem_c hc with rfl | hc
  · obtain ⟨w0, m0, h⟩ := fe_lR_d h
    obtain ⟨w1, m1, h⟩ := fe_lI_d h
    obtain ⟨w2, m2, h⟩ := fe_lI_d h
    obtain ⟨w3, m3, h⟩ := fe_lL_d h
    obtain ⟨w5, m5, h⟩ := fe_lL_d h
    obtain ⟨rfl, hz⟩ := fe_t0_d h
    exact ⟨[(0, .ref w0), (1, .int w1), (2, .int w2), (3, .long w3), (5, .long w5)], (fe_cs m0 (fe_cs m1 (fe_cs m2 (fe_cs m3 (fe_cs m5 fe_nl))))), Or.inr ((bX74_trap_0 FX77_show FX79_show FX78_show FX80_take FX78_putTwo FX78_has FX78_put FX74_trap_0 FX74_trap_21 FX74_trap_77 FX74_trap_113 FX74_trap_173 w0 w1 w2 w3 w5 M).symm.trans hz)⟩
  rcases fe_mem_c hc with rfl | hc
  · obtain ⟨w0, m0, h⟩ := fe_lR_d h
    obtain ⟨w1, m1, h⟩ := fe_lI_d h
    obtain ⟨w2, m2, h⟩ := fe_lI_d h
    obtain ⟨w3, m3, h⟩ := fe_lL_d h
    obtain ⟨w5, m5, h⟩ := fe_lL_d h
    obtain ⟨s0, t0, rfl, g0⟩ := fe_tL_d h
    obtain ⟨rfl, hz⟩ := fe_t0_d g0
    exact ⟨[(0, .ref w0), (1, .int w1), (2, .int w2), (3, .long w3), (5, .long w5)], (fe_cs m0 (fe_cs m1 (fe_cs m2 (fe_cs m3 (fe_cs m5 fe_nl))))), Or.inr ((bX74_trap_21 FX77_show FX79_show FX78_show FX80_take FX78_putTwo FX78_has FX78_put FX74_trap_0 FX74_trap_21 FX74_trap_77 FX74_trap_113 FX74_trap_173 w0 w1 w2 w3 w5 s0 M).symm.trans hz)⟩
  rcases fe_mem_c hc with rfl | hc
  · obtain ⟨w0, m0, h⟩ := fe_lR_d h
    obtain ⟨s2, t2, rfl, g2⟩ := fe_tI_d h
    obtain ⟨s1, t1, rfl, g1⟩ := fe_tI_d g2
    obtain ⟨s0, t0, rfl, g0⟩ := fe_tR_d g1
    obtain ⟨rfl, hz⟩ := fe_t0_d g0
    exact ⟨[(0, .ref w0)], (fe_cs m0 fe_nl), Or.inr ((bX74_trap_77 FX77_show FX79_show FX78_show FX80_take FX78_putTwo FX78_has FX78_put FX74_trap_0 FX74_trap_21 FX74_trap_77 FX74_trap_113 FX74_trap_173 w0 s0 s1 s2 M).symm.trans hz)⟩
  rcases fe_mem_c hc with rfl | hc
  · obtain ⟨w0, m0, h⟩ := fe_lR_d h
    obtain ⟨w1, m1, h⟩ := fe_lI_d h
    obtain ⟨w2, m2, h⟩ := fe_lI_d h
    obtain ⟨w3, m3, h⟩ := fe_lL_d h
    obtain ⟨w5, m5, h⟩ := fe_lL_d h
    obtain ⟨rfl, hz⟩ := fe_t0_d h
    exact ⟨[(0, .ref w0), (1, .int w1), (2, .int w2), (3, .long w3), (5, .long w5)], (fe_cs m0 (fe_cs m1 (fe_cs m2 (fe_cs m3 (fe_cs m5 fe_nl))))), Or.inr ((bX74_trap_113 FX77_show FX79_show FX78_show FX80_take FX78_putTwo FX78_has FX78_put FX74_trap_0 FX74_trap_21 FX74_trap_77 FX74_trap_113 FX74_trap_173 w0 w1 w2 w3 w5 M).symm.trans hz)⟩
  rcases fe_mem_c hc with rfl | hc
  · obtain ⟨w0, m0, h⟩ := fe_lR_d h
    obtain ⟨rfl, hz⟩ := fe_t0_d h
    exact ⟨[(0, .ref w0)], (fe_cs m0 fe_nl), Or.inr ((bX74_trap_173 FX77_show FX79_show FX78_show FX80_take FX78_putTwo FX78_has FX78_put FX74_trap_0 FX74_trap_21 FX74_trap_77 FX74_trap_113 FX74_trap_173 w0 M).symm.trans hz)⟩
  exact fe_mem_0 hc
theorem vX74_trap : fe_SB (sX74_trap FX77_show FX79_show FX78_show FX80_take FX78_putTwo FX78_has FX78_put) := by
  refine ⟨?_, ?_, ?_, ?_⟩
  · intro i As M r h
    rcases fe_bc h with h | h
    · obtain ⟨v0, t0, rfl, g0⟩ := fe_tR_d h
      obtain ⟨v1, t1, rfl, g1⟩ := fe_tI_d g0
      obtain ⟨v2, t2, rfl, g2⟩ := fe_tI_d g1
      obtain ⟨rfl, hz⟩ := fe_t0_d g2
      exact mX78_putTwo v0 v1 v2 M r hz
    rcases fe_bc h with h | h
    · obtain ⟨v0, t0, rfl, g0⟩ := fe_tR_d h
      obtain ⟨v1, t1, rfl, g1⟩ := fe_tI_d g0
      obtain ⟨v2, t2, rfl, g2⟩ := fe_tI_d g1
      obtain ⟨rfl, hz⟩ := fe_t0_d g2
      exact mX78_put v0 v1 v2 M r hz
    exact fe_no h
  · intro i As M r h
    rcases fe_bc h with h | h
    · obtain ⟨v0, t0, rfl, g0⟩ := fe_tR_d h
      obtain ⟨v1, t1, rfl, g1⟩ := fe_tI_d g0
      obtain ⟨rfl, hz⟩ := fe_t0_d g1
      exact mX78_has v0 v1 M r hz
    exact fe_no h
  · intro i As M r h
    rcases fe_bc h with h | h
    · obtain ⟨v0, t0, rfl, g0⟩ := fe_tR_d h
      obtain ⟨rfl, hz⟩ := fe_t0_d g0
      exact mX77_show v0 M r hz
    rcases fe_bc h with h | h
    · obtain ⟨v0, t0, rfl, g0⟩ := fe_tR_d h
      obtain ⟨rfl, hz⟩ := fe_t0_d g0
      exact mX79_show v0 M r hz
    rcases fe_bc h with h | h
    · obtain ⟨v0, t0, rfl, g0⟩ := fe_tR_d h
      obtain ⟨rfl, hz⟩ := fe_t0_d g0
      exact mX78_show v0 M r hz
    rcases fe_bc h with h | h
    · obtain ⟨v0, t0, rfl, g0⟩ := fe_tR_d h
      obtain ⟨v1, t1, rfl, g1⟩ := fe_tI_d g0
      obtain ⟨v2, t2, rfl, g2⟩ := fe_tI_d g1
      obtain ⟨v3, t3, rfl, g3⟩ := fe_tL_d g2
      obtain ⟨v4, t4, rfl, g4⟩ := fe_tL_d g3
      obtain ⟨rfl, hz⟩ := fe_t0_d g4
      exact mX80_take v0 v1 v2 v3 v4 M r hz
    exact fe_no h
  · intro i As M r h
    exact fe_no h
theorem eX74_trap (g0 : Nat → Int32 → Int32 → Int64 → Int64 → FM → Option (Int64 × FM)) (g21 : Nat → Int32 → Int32 → Int64 → Int64 → Int64 → FM → Option (Int64 × FM)) (g77 : Nat → Nat → Int32 → Int32 → FM → Option (Int64 × FM)) (g113 : Nat → Int32 → Int32 → Int64 → Int64 → FM → Option (Int64 × FM)) (g173 : Nat → FM → Option (Int64 × FM)) (a0 : Nat) (a1 : Int32) (a2 : Int32) (a3 : Int64) (a5 : Int64) (M : FM) : dX74_trap g0 g21 g77 g113 g173 0 [(0, .ref a0), (1, .int a1), (2, .int a2), (3, .long a3), (5, .long a5)] [] M = g0 a0 a1 a2 a3 a5 M := by rfl
theorem mX74_trap (a0 : Nat) (a1 : Int32) (a2 : Int32) (a3 : Int64) (a5 : Int64) (M : FM) (r : Int64 × FM) (h : FX74_trap a0 a1 a2 a3 a5 M = some r) : fm_nx M ≤ fm_nx r.2 ∧ fm_ns M ≤ fm_ns r.2 :=
  fe_mono (L0 := [(0, .ref a0), (1, .int a1), (2, .int a2), (3, .long a3), (5, .long a5)]) (vX74_trap) (by decide +kernel) (hX74_trap) (fe_kl_k r) 0 rfl ((eX74_trap FX74_trap_0 FX74_trap_21 FX74_trap_77 FX74_trap_113 FX74_trap_173 a0 a1 a2 a3 a5 M).trans h)
theorem zX74_trap {s0 : State} {H0 : Heap} {oa : Nat → Nat} {D : va_G} (K : fk s0 H0 oa D) (l : Launch) (a0 : Nat) (a1 : Int32) (a2 : Int32) (a3 : Int64) (a5 : Int64) (M : FM) (r : Int64 × FM) (h : FX74_trap a0 a1 a2 a3 a5 M = some r) : fs_Con (fk_E s0 H0 oa D) l 5 ⟨"BoardMachine$Controls$ControlUnit", "trap", "(ZIJJ)J"⟩ prog_5_method_9_code 9 (Option.some Jvm.ClassFile.FieldType.long) [.ref a0, .int a1, .int a2, .long a3, .long a5] M (some (.long r.1)) r.2 := by
  have o0 : fs_OS (sX74_trap FX77_show FX79_show FX78_show FX80_take FX78_putTwo FX78_has FX78_put) 0 2 (fs_Con (fk_E s0 H0 oa D) l 1 ⟨"BoardMachine$Controls$Masked", "show", "()J"⟩ prog_6_method_2_code 1 (Option.some Jvm.ClassFile.FieldType.long)) := by
    intro As M r h
    obtain ⟨v0, t0, rfl, g0⟩ := fe_tR_d h
    obtain ⟨rfl, hz⟩ := fe_t0_d g0
    exact zX77_show K l v0 M r hz
  have o1 : fs_OS (sX74_trap FX77_show FX79_show FX78_show FX80_take FX78_putTwo FX78_has FX78_put) 1 2 (fs_Con (fk_E s0 H0 oa D) l 1 ⟨"BoardMachine$Controls$Pending", "show", "()J"⟩ prog_7_method_2_code 1 (Option.some Jvm.ClassFile.FieldType.long)) := by
    intro As M r h
    obtain ⟨v0, t0, rfl, g0⟩ := fe_tR_d h
    obtain ⟨rfl, hz⟩ := fe_t0_d g0
    exact zX79_show K l v0 M r hz
  have o2 : fs_OS (sX74_trap FX77_show FX79_show FX78_show FX80_take FX78_putTwo FX78_has FX78_put) 2 2 (fs_Con (fk_E s0 H0 oa D) l 3 ⟨"BoardMachine$Controls$Status", "show", "()J"⟩ prog_10_method_7_code 1 (Option.some Jvm.ClassFile.FieldType.long)) := by
    intro As M r h
    obtain ⟨v0, t0, rfl, g0⟩ := fe_tR_d h
    obtain ⟨rfl, hz⟩ := fe_t0_d g0
    exact zX78_show K l v0 M r hz
  have o3 : fs_OS (sX74_trap FX77_show FX79_show FX78_show FX80_take FX78_putTwo FX78_has FX78_put) 3 2 (fs_Con (fk_E s0 H0 oa D) l 4 ⟨"BoardMachine$Controls$TrapBank", "take", "(ZIJJ)J"⟩ prog_12_method_2_code 9 (Option.some Jvm.ClassFile.FieldType.long)) := by
    intro As M r h
    obtain ⟨v0, t0, rfl, g0⟩ := fe_tR_d h
    obtain ⟨v1, t1, rfl, g1⟩ := fe_tI_d g0
    obtain ⟨v2, t2, rfl, g2⟩ := fe_tI_d g1
    obtain ⟨v3, t3, rfl, g3⟩ := fe_tL_d g2
    obtain ⟨v4, t4, rfl, g4⟩ := fe_tL_d g3
    obtain ⟨rfl, hz⟩ := fe_t0_d g4
    exact zX80_take K l v0 v1 v2 v3 v4 M r hz
  have o4 : fs_OS (sX74_trap FX77_show FX79_show FX78_show FX80_take FX78_putTwo FX78_has FX78_put) 4 0 (fs_Con (fk_E s0 H0 oa D) l 1 ⟨"BoardMachine$Controls$Status", "putTwo", "(II)V"⟩ prog_10_method_5_code 3 (Option.none : Option Jvm.ClassFile.FieldType)) := by
    intro As M r h
    obtain ⟨v0, t0, rfl, g0⟩ := fe_tR_d h
    obtain ⟨v1, t1, rfl, g1⟩ := fe_tI_d g0
    obtain ⟨v2, t2, rfl, g2⟩ := fe_tI_d g1
    obtain ⟨rfl, hz⟩ := fe_t0_d g2
    exact zX78_putTwo K l v0 v1 v2 M r hz
  have o5 : fs_OS (sX74_trap FX77_show FX79_show FX78_show FX80_take FX78_putTwo FX78_has FX78_put) 5 1 (fs_Con (fk_E s0 H0 oa D) l 1 ⟨"BoardMachine$Controls$Status", "has", "(I)Z"⟩ prog_10_method_2_code 2 (Option.some Jvm.ClassFile.FieldType.boolean)) := by
    intro As M r h
    obtain ⟨v0, t0, rfl, g0⟩ := fe_tR_d h
    obtain ⟨v1, t1, rfl, g1⟩ := fe_tI_d g0
    obtain ⟨rfl, hz⟩ := fe_t0_d g1
    exact zX78_has K l v0 v1 M r hz
  have o6 : fs_OS (sX74_trap FX77_show FX79_show FX78_show FX80_take FX78_putTwo FX78_has FX78_put) 6 0 (fs_Con (fk_E s0 H0 oa D) l 1 ⟨"BoardMachine$Controls$Status", "put", "(IZ)V"⟩ prog_10_method_3_code 3 (Option.none : Option Jvm.ClassFile.FieldType)) := by
    intro As M r h
    obtain ⟨v0, t0, rfl, g0⟩ := fe_tR_d h
    obtain ⟨v1, t1, rfl, g1⟩ := fe_tI_d g0
    obtain ⟨v2, t2, rfl, g2⟩ := fe_tI_d g1
    obtain ⟨rfl, hz⟩ := fe_t0_d g2
    exact zX78_put K l v0 v1 v2 M r hz
  refine fs_method (own := "BoardMachine$Controls$ControlUnit") rfl (by decide) K.2.1 (by rw [fe_slen]; exact (Nat.le_of_ble_eq_true rfl)) (mX74_trap a0 a1 a2 a3 a5 M r h) (hX74_trap) 0 rfl (L0 := [(0, .ref a0), (1, .int a1), (2, .int a2), (3, .long a3), (5, .long a5)]) (fun E => fe_args_e E [.ref a0, .int a1, .int a2, .long a3, .long a5] 0) ((eX74_trap FX74_trap_0 FX74_trap_21 FX74_trap_77 FX74_trap_113 FX74_trap_173 a0 a1 a2 a3 a5 M).trans h) (fe_kl_k r) (fun H hR => fs_nr_o (by decide) (by decide)) ?_
  intro p e s m args below meth c Q C hnm
  have hw : s0.WarmedH s.vm := C.2.2.2.2.1
  refine fe_all C fk_hwr cX74_trap [5, 8, 15, 18, 24, 44, 52, 55, 59, 65, 77, 81, 86, 90, 93, 97, 102, 107, 115, 123, 126, 130, 136, 139, 143, 149, 153, 156, 160, 165, 170, 174] (by decide +kernel) (fe_fil (cps := [(5, 8, .getfield 121684018), (8, 11, .invokeinterface 0 0), (15, 18, .getfield 117489714), (18, 21, .invokeinterface 1 0), (24, 27, .getfield 155238448), (44, 47, .getfield 138461234), (52, 55, .invokevirtual 224415764), (55, 58, .putfield 163627057), (59, 62, .getfield 113295410), (65, 68, .getfield 155238448), (77, 80, .invokevirtual 415252496), (81, 84, .getfield 113295410), (86, 89, .getfield 113295410), (90, 93, .invokevirtual 344997904), (93, 96, .invokevirtual 415252496), (97, 100, .getfield 113295410), (102, 105, .invokevirtual 415252496), (107, 110, .putfield 155238448), (115, 118, .getfield 134266930), (123, 126, .invokevirtual 224415764), (126, 129, .putfield 163627057), (130, 133, .getfield 113295410), (136, 139, .getfield 155238448), (139, 142, .invokevirtual 281034768), (143, 146, .getfield 113295410), (149, 152, .getfield 113295410), (153, 156, .invokevirtual 344997904), (156, 159, .invokevirtual 415252496), (160, 163, .getfield 113295410), (165, 168, .invokevirtual 415252496), (170, 173, .putfield 155238448), (174, 177, .getfield 163627057)]) (by decide +kernel) ?_)
  refine fs_c1 (fs_getf (pc := 5) (n := 121684018) (idx := 48) (ref := "BoardMachine$Controls$ControlUnit") (O := "BoardMachine$Controls$ControlUnit") (name := "interrupts") (desc := "LBoardMachine$Controls$Masked;") C (by decide +kernel) (Or.inl (kw K hw q1860)) (fun _ h => h) (Nat.le_of_ble_eq_true rfl) (Nat.le_of_ble_eq_true rfl) (fs_one (⟨_, ff_12_29 s0 H0 oa D⟩))) ?_
  refine fs_c1 (fs_inv_table (pc := 8) (nx := 11) (i := 0) (k := 0) C rfl (List.forall_mem_cons.mpr ⟨⟨(Nat.le_of_ble_eq_true rfl), (Nat.le_of_ble_eq_true rfl), _, fs_lk_up (idx := 137) (x := ⟨"BoardMachine$Controls$Masked", "show", "()J"⟩) (owner := "BoardMachine$Controls$Masked") (y := ⟨"BoardMachine$Controls$Masked", "show", "()J"⟩) (bytes := prog_6_method_2_code) (maxL := 1) (rt := (Option.some Jvm.ClassFile.FieldType.long)) (d := 1) C (Nat.le_of_ble_eq_true rfl) (Nat.le_of_ble_eq_true rfl) (by decide +kernel) (kw K hw q2913) (kw K hw q388) (kw K hw q2895) (kw K hw q2894) (kw K hw q2897) (va_Decl.of (kw (args := args) K hw q2895) (kw K hw q2913)) ⟨by decide, by decide⟩ rfl (Nat.le_of_ble_eq_true rfl) (Nat.le_of_ble_eq_true rfl) (fs_one (⟨_, rfl, kw K hw q2896⟩)), fs_con_mono, o0⟩, List.forall_mem_cons.mpr ⟨⟨(Nat.le_of_ble_eq_true rfl), (Nat.le_of_ble_eq_true rfl), _, fs_lk_up (idx := 137) (x := ⟨"BoardMachine$Controls$Masked", "show", "()J"⟩) (owner := "BoardMachine$Controls$Masked") (y := ⟨"BoardMachine$Controls$Pending", "show", "()J"⟩) (bytes := prog_7_method_2_code) (maxL := 1) (rt := (Option.some Jvm.ClassFile.FieldType.long)) (d := 1) C (Nat.le_of_ble_eq_true rfl) (Nat.le_of_ble_eq_true rfl) (by decide +kernel) (kw K hw q2893) (kw K hw q390) (kw K hw q2891) (kw K hw q2894) (kw K hw q2897) (va_Decl.of (kw (args := args) K hw q2895) (kw K hw q2913)) ⟨by decide, by decide⟩ rfl (Nat.le_of_ble_eq_true rfl) (Nat.le_of_ble_eq_true rfl) (fs_one (⟨_, rfl, kw K hw q2898⟩)), fs_con_mono, o1⟩, List.forall_mem_cons.mpr ⟨⟨(Nat.le_of_ble_eq_true rfl), (Nat.le_of_ble_eq_true rfl), _, fs_lk_up (idx := 137) (x := ⟨"BoardMachine$Controls$Masked", "show", "()J"⟩) (owner := "BoardMachine$Controls$Masked") (y := ⟨"BoardMachine$Controls$Status", "show", "()J"⟩) (bytes := prog_10_method_7_code) (maxL := 1) (rt := (Option.some Jvm.ClassFile.FieldType.long)) (d := 3) C (Nat.le_of_ble_eq_true rfl) (Nat.le_of_ble_eq_true rfl) (by decide +kernel) (kw K hw q2901) (kw K hw q389) (kw K hw q2900) (kw K hw q2894) (kw K hw q2897) (va_Decl.of (kw (args := args) K hw q2895) (kw K hw q2913)) ⟨by decide, by decide⟩ rfl (Nat.le_of_ble_eq_true rfl) (Nat.le_of_ble_eq_true rfl) (fs_one (⟨_, rfl, kw K hw q2899⟩)), fs_con_mono, o2⟩, List.forall_mem_cons.mpr ⟨⟨(Nat.le_of_ble_eq_true rfl), (Nat.le_of_ble_eq_true rfl), _, fs_lk_up (idx := 137) (x := ⟨"BoardMachine$Controls$Masked", "show", "()J"⟩) (owner := "BoardMachine$Controls$Masked") (y := ⟨"BoardMachine$Controls$Masked", "show", "()J"⟩) (bytes := prog_6_method_2_code) (maxL := 1) (rt := (Option.some Jvm.ClassFile.FieldType.long)) (d := 1) C (Nat.le_of_ble_eq_true rfl) (Nat.le_of_ble_eq_true rfl) (by decide +kernel) (kw K hw q2913) (kw K hw q388) (kw K hw q2895) (kw K hw q2894) (kw K hw q2897) (va_Decl.of (kw (args := args) K hw q2895) (kw K hw q2913)) ⟨by decide, by decide⟩ rfl (Nat.le_of_ble_eq_true rfl) (Nat.le_of_ble_eq_true rfl) (fs_one (⟨_, rfl, kw K hw q2912⟩)), fs_con_mono, o0⟩, List.forall_mem_nil _⟩⟩⟩⟩)) ?_
  refine fs_c1 (fs_getf (pc := 15) (n := 117489714) (idx := 42) (ref := "BoardMachine$Controls$ControlUnit") (O := "BoardMachine$Controls$ControlUnit") (name := "exceptions") (desc := "LBoardMachine$Controls$Masked;") C (by decide +kernel) (Or.inl (kw K hw q1858)) (fun _ h => h) (Nat.le_of_ble_eq_true rfl) (Nat.le_of_ble_eq_true rfl) (fs_one (⟨_, ff_12_28 s0 H0 oa D⟩))) ?_
  refine fs_c1 (fs_inv_table (pc := 18) (nx := 21) (i := 1) (k := 0) C rfl (List.forall_mem_cons.mpr ⟨⟨(Nat.le_of_ble_eq_true rfl), (Nat.le_of_ble_eq_true rfl), _, fs_lk_up (idx := 137) (x := ⟨"BoardMachine$Controls$Masked", "show", "()J"⟩) (owner := "BoardMachine$Controls$Masked") (y := ⟨"BoardMachine$Controls$Masked", "show", "()J"⟩) (bytes := prog_6_method_2_code) (maxL := 1) (rt := (Option.some Jvm.ClassFile.FieldType.long)) (d := 1) C (Nat.le_of_ble_eq_true rfl) (Nat.le_of_ble_eq_true rfl) (by decide +kernel) (kw K hw q2913) (kw K hw q388) (kw K hw q2895) (kw K hw q2894) (kw K hw q2897) (va_Decl.of (kw (args := args) K hw q2895) (kw K hw q2913)) ⟨by decide, by decide⟩ rfl (Nat.le_of_ble_eq_true rfl) (Nat.le_of_ble_eq_true rfl) (fs_one (⟨_, rfl, kw K hw q2896⟩)), fs_con_mono, o0⟩, List.forall_mem_cons.mpr ⟨⟨(Nat.le_of_ble_eq_true rfl), (Nat.le_of_ble_eq_true rfl), _, fs_lk_up (idx := 137) (x := ⟨"BoardMachine$Controls$Masked", "show", "()J"⟩) (owner := "BoardMachine$Controls$Masked") (y := ⟨"BoardMachine$Controls$Pending", "show", "()J"⟩) (bytes := prog_7_method_2_code) (maxL := 1) (rt := (Option.some Jvm.ClassFile.FieldType.long)) (d := 1) C (Nat.le_of_ble_eq_true rfl) (Nat.le_of_ble_eq_true rfl) (by decide +kernel) (kw K hw q2893) (kw K hw q390) (kw K hw q2891) (kw K hw q2894) (kw K hw q2897) (va_Decl.of (kw (args := args) K hw q2895) (kw K hw q2913)) ⟨by decide, by decide⟩ rfl (Nat.le_of_ble_eq_true rfl) (Nat.le_of_ble_eq_true rfl) (fs_one (⟨_, rfl, kw K hw q2898⟩)), fs_con_mono, o1⟩, List.forall_mem_cons.mpr ⟨⟨(Nat.le_of_ble_eq_true rfl), (Nat.le_of_ble_eq_true rfl), _, fs_lk_up (idx := 137) (x := ⟨"BoardMachine$Controls$Masked", "show", "()J"⟩) (owner := "BoardMachine$Controls$Masked") (y := ⟨"BoardMachine$Controls$Status", "show", "()J"⟩) (bytes := prog_10_method_7_code) (maxL := 1) (rt := (Option.some Jvm.ClassFile.FieldType.long)) (d := 3) C (Nat.le_of_ble_eq_true rfl) (Nat.le_of_ble_eq_true rfl) (by decide +kernel) (kw K hw q2901) (kw K hw q389) (kw K hw q2900) (kw K hw q2894) (kw K hw q2897) (va_Decl.of (kw (args := args) K hw q2895) (kw K hw q2913)) ⟨by decide, by decide⟩ rfl (Nat.le_of_ble_eq_true rfl) (Nat.le_of_ble_eq_true rfl) (fs_one (⟨_, rfl, kw K hw q2899⟩)), fs_con_mono, o2⟩, List.forall_mem_cons.mpr ⟨⟨(Nat.le_of_ble_eq_true rfl), (Nat.le_of_ble_eq_true rfl), _, fs_lk_up (idx := 137) (x := ⟨"BoardMachine$Controls$Masked", "show", "()J"⟩) (owner := "BoardMachine$Controls$Masked") (y := ⟨"BoardMachine$Controls$Masked", "show", "()J"⟩) (bytes := prog_6_method_2_code) (maxL := 1) (rt := (Option.some Jvm.ClassFile.FieldType.long)) (d := 1) C (Nat.le_of_ble_eq_true rfl) (Nat.le_of_ble_eq_true rfl) (by decide +kernel) (kw K hw q2913) (kw K hw q388) (kw K hw q2895) (kw K hw q2894) (kw K hw q2897) (va_Decl.of (kw (args := args) K hw q2895) (kw K hw q2913)) ⟨by decide, by decide⟩ rfl (Nat.le_of_ble_eq_true rfl) (Nat.le_of_ble_eq_true rfl) (fs_one (⟨_, rfl, kw K hw q2912⟩)), fs_con_mono, o0⟩, List.forall_mem_nil _⟩⟩⟩⟩)) ?_
  refine fs_c1 (fs_getf (pc := 24) (n := 155238448) (idx := 84) (ref := "BoardMachine$Controls$ControlUnit") (O := "BoardMachine$Controls$ControlUnit") (name := "mode") (desc := "I") C (by decide +kernel) (Or.inl (kw K hw q1877)) (fun _ h => h) (Nat.le_of_ble_eq_true rfl) (Nat.le_of_ble_eq_true rfl) (fs_one (⟨_, ff_12_37 s0 H0 oa D⟩))) ?_
  refine fs_c1 (fs_getf (pc := 44) (n := 138461234) (idx := 70) (ref := "BoardMachine$Controls$ControlUnit") (O := "BoardMachine$Controls$ControlUnit") (name := "supervisor") (desc := "LBoardMachine$Controls$TrapBank;") C (by decide +kernel) (Or.inl (kw K hw q1868)) (fun _ h => h) (Nat.le_of_ble_eq_true rfl) (Nat.le_of_ble_eq_true rfl) (fs_one (⟨_, ff_12_33 s0 H0 oa D⟩))) ?_
  refine fs_c1 (fs_inv_virtual (pc := 52) (n := 224415764) C (Nat.le_of_ble_eq_true rfl) (Nat.le_of_ble_eq_true rfl) (fs_lk_virtual (idx := 173) (y := ⟨"BoardMachine$Controls$TrapBank", "take", "(ZIJJ)J"⟩) (bytes := prog_12_method_2_code) (maxL := 9) (rt := (Option.some Jvm.ClassFile.FieldType.long)) (d := 4) C (Nat.le_of_ble_eq_true rfl) (Nat.le_of_ble_eq_true rfl) (by decide +kernel) (kw K hw q2938) (kw K hw q391) (kw K hw q2936) (Or.inl (kw K hw q2935)) ⟨by decide, by decide⟩ rfl (Nat.le_of_ble_eq_true rfl) (Nat.le_of_ble_eq_true rfl) (fs_one (⟨_, rfl, kw K hw q2937⟩))) fs_con_mono o3) ?_
  refine fs_c1 (fs_putf (pc := 55) (n := 163627057) (idx := 177) (ref := "BoardMachine$Controls$ControlUnit") (O := "BoardMachine$Controls$ControlUnit") (name := "next") (desc := "J") (fin := false) (ty := .long) C (by decide +kernel) (Or.inl ⟨rfl, Or.inl (kw K hw q1882)⟩) (fun _ h => h) (Nat.le_of_ble_eq_true rfl) (Nat.le_of_ble_eq_true rfl) (Nat.le_of_ble_eq_true rfl) rfl rfl (by decide) (fs_one (⟨rfl, ff_12_39 s0 H0 oa D⟩))) ?_
  refine fs_c1 (fs_getf (pc := 59) (n := 113295410) (idx := 33) (ref := "BoardMachine$Controls$ControlUnit") (O := "BoardMachine$Controls$ControlUnit") (name := "status") (desc := "LBoardMachine$Controls$Status;") C (by decide +kernel) (Or.inl (kw K hw q1856)) (fun _ h => h) (Nat.le_of_ble_eq_true rfl) (Nat.le_of_ble_eq_true rfl) (fs_one (⟨_, ff_12_27 s0 H0 oa D⟩))) ?_
  refine fs_c1 (fs_getf (pc := 65) (n := 155238448) (idx := 84) (ref := "BoardMachine$Controls$ControlUnit") (O := "BoardMachine$Controls$ControlUnit") (name := "mode") (desc := "I") C (by decide +kernel) (Or.inl (kw K hw q1877)) (fun _ h => h) (Nat.le_of_ble_eq_true rfl) (Nat.le_of_ble_eq_true rfl) (fs_one (⟨_, ff_12_37 s0 H0 oa D⟩))) ?_
  refine fs_c1 (fs_inv_virtual (pc := 77) (n := 415252496) C (Nat.le_of_ble_eq_true rfl) (Nat.le_of_ble_eq_true rfl) (fs_lk_virtual (idx := 180) (y := ⟨"BoardMachine$Controls$Status", "put", "(IZ)V"⟩) (bytes := prog_10_method_3_code) (maxL := 3) (rt := (Option.none : Option Jvm.ClassFile.FieldType)) (d := 1) C (Nat.le_of_ble_eq_true rfl) (Nat.le_of_ble_eq_true rfl) (by decide +kernel) (kw K hw q2967) (kw K hw q389) (kw K hw q2965) (Or.inl (kw K hw q2964)) ⟨by decide, by decide⟩ rfl (Nat.le_of_ble_eq_true rfl) (Nat.le_of_ble_eq_true rfl) (fs_one (⟨_, rfl, kw K hw q2966⟩))) fs_con_mono o6) ?_
  refine fs_c1 (fs_getf (pc := 81) (n := 113295410) (idx := 33) (ref := "BoardMachine$Controls$ControlUnit") (O := "BoardMachine$Controls$ControlUnit") (name := "status") (desc := "LBoardMachine$Controls$Status;") C (by decide +kernel) (Or.inl (kw K hw q1856)) (fun _ h => h) (Nat.le_of_ble_eq_true rfl) (Nat.le_of_ble_eq_true rfl) (fs_one (⟨_, ff_12_27 s0 H0 oa D⟩))) ?_
  refine fs_c1 (fs_getf (pc := 86) (n := 113295410) (idx := 33) (ref := "BoardMachine$Controls$ControlUnit") (O := "BoardMachine$Controls$ControlUnit") (name := "status") (desc := "LBoardMachine$Controls$Status;") C (by decide +kernel) (Or.inl (kw K hw q1856)) (fun _ h => h) (Nat.le_of_ble_eq_true rfl) (Nat.le_of_ble_eq_true rfl) (fs_one (⟨_, ff_12_27 s0 H0 oa D⟩))) ?_
  refine fs_c1 (fs_inv_virtual (pc := 90) (n := 344997904) C (Nat.le_of_ble_eq_true rfl) (Nat.le_of_ble_eq_true rfl) (fs_lk_virtual (idx := 141) (y := ⟨"BoardMachine$Controls$Status", "has", "(I)Z"⟩) (bytes := prog_10_method_2_code) (maxL := 2) (rt := (Option.some Jvm.ClassFile.FieldType.boolean)) (d := 1) C (Nat.le_of_ble_eq_true rfl) (Nat.le_of_ble_eq_true rfl) (by decide +kernel) (kw K hw q2921) (kw K hw q389) (kw K hw q2919) (Or.inl (kw K hw q2918)) ⟨by decide, by decide⟩ rfl (Nat.le_of_ble_eq_true rfl) (Nat.le_of_ble_eq_true rfl) (fs_one (⟨_, rfl, kw K hw q2920⟩))) fs_con_mono o5) ?_
  refine fs_c1 (fs_inv_virtual (pc := 93) (n := 415252496) C (Nat.le_of_ble_eq_true rfl) (Nat.le_of_ble_eq_true rfl) (fs_lk_virtual (idx := 180) (y := ⟨"BoardMachine$Controls$Status", "put", "(IZ)V"⟩) (bytes := prog_10_method_3_code) (maxL := 3) (rt := (Option.none : Option Jvm.ClassFile.FieldType)) (d := 1) C (Nat.le_of_ble_eq_true rfl) (Nat.le_of_ble_eq_true rfl) (by decide +kernel) (kw K hw q2967) (kw K hw q389) (kw K hw q2965) (Or.inl (kw K hw q2964)) ⟨by decide, by decide⟩ rfl (Nat.le_of_ble_eq_true rfl) (Nat.le_of_ble_eq_true rfl) (fs_one (⟨_, rfl, kw K hw q2966⟩))) fs_con_mono o6) ?_
  refine fs_c1 (fs_getf (pc := 97) (n := 113295410) (idx := 33) (ref := "BoardMachine$Controls$ControlUnit") (O := "BoardMachine$Controls$ControlUnit") (name := "status") (desc := "LBoardMachine$Controls$Status;") C (by decide +kernel) (Or.inl (kw K hw q1856)) (fun _ h => h) (Nat.le_of_ble_eq_true rfl) (Nat.le_of_ble_eq_true rfl) (fs_one (⟨_, ff_12_27 s0 H0 oa D⟩))) ?_
  refine fs_c1 (fs_inv_virtual (pc := 102) (n := 415252496) C (Nat.le_of_ble_eq_true rfl) (Nat.le_of_ble_eq_true rfl) (fs_lk_virtual (idx := 180) (y := ⟨"BoardMachine$Controls$Status", "put", "(IZ)V"⟩) (bytes := prog_10_method_3_code) (maxL := 3) (rt := (Option.none : Option Jvm.ClassFile.FieldType)) (d := 1) C (Nat.le_of_ble_eq_true rfl) (Nat.le_of_ble_eq_true rfl) (by decide +kernel) (kw K hw q2967) (kw K hw q389) (kw K hw q2965) (Or.inl (kw K hw q2964)) ⟨by decide, by decide⟩ rfl (Nat.le_of_ble_eq_true rfl) (Nat.le_of_ble_eq_true rfl) (fs_one (⟨_, rfl, kw K hw q2966⟩))) fs_con_mono o6) ?_
  refine fs_c1 (fs_putf (pc := 107) (n := 155238448) (idx := 84) (ref := "BoardMachine$Controls$ControlUnit") (O := "BoardMachine$Controls$ControlUnit") (name := "mode") (desc := "I") (fin := false) (ty := .int) C (by decide +kernel) (Or.inl ⟨rfl, Or.inl (kw K hw q1877)⟩) (fun _ h => h) (Nat.le_of_ble_eq_true rfl) (Nat.le_of_ble_eq_true rfl) (Nat.le_of_ble_eq_true rfl) rfl rfl (by decide) (fs_one (⟨rfl, ff_12_37 s0 H0 oa D⟩))) ?_
  refine fs_c1 (fs_getf (pc := 115) (n := 134266930) (idx := 66) (ref := "BoardMachine$Controls$ControlUnit") (O := "BoardMachine$Controls$ControlUnit") (name := "machine") (desc := "LBoardMachine$Controls$TrapBank;") C (by decide +kernel) (Or.inl (kw K hw q1866)) (fun _ h => h) (Nat.le_of_ble_eq_true rfl) (Nat.le_of_ble_eq_true rfl) (fs_one (⟨_, ff_12_32 s0 H0 oa D⟩))) ?_
  refine fs_c1 (fs_inv_virtual (pc := 123) (n := 224415764) C (Nat.le_of_ble_eq_true rfl) (Nat.le_of_ble_eq_true rfl) (fs_lk_virtual (idx := 173) (y := ⟨"BoardMachine$Controls$TrapBank", "take", "(ZIJJ)J"⟩) (bytes := prog_12_method_2_code) (maxL := 9) (rt := (Option.some Jvm.ClassFile.FieldType.long)) (d := 4) C (Nat.le_of_ble_eq_true rfl) (Nat.le_of_ble_eq_true rfl) (by decide +kernel) (kw K hw q2938) (kw K hw q391) (kw K hw q2936) (Or.inl (kw K hw q2935)) ⟨by decide, by decide⟩ rfl (Nat.le_of_ble_eq_true rfl) (Nat.le_of_ble_eq_true rfl) (fs_one (⟨_, rfl, kw K hw q2937⟩))) fs_con_mono o3) ?_
  refine fs_c1 (fs_putf (pc := 126) (n := 163627057) (idx := 177) (ref := "BoardMachine$Controls$ControlUnit") (O := "BoardMachine$Controls$ControlUnit") (name := "next") (desc := "J") (fin := false) (ty := .long) C (by decide +kernel) (Or.inl ⟨rfl, Or.inl (kw K hw q1882)⟩) (fun _ h => h) (Nat.le_of_ble_eq_true rfl) (Nat.le_of_ble_eq_true rfl) (Nat.le_of_ble_eq_true rfl) rfl rfl (by decide) (fs_one (⟨rfl, ff_12_39 s0 H0 oa D⟩))) ?_
  refine fs_c1 (fs_getf (pc := 130) (n := 113295410) (idx := 33) (ref := "BoardMachine$Controls$ControlUnit") (O := "BoardMachine$Controls$ControlUnit") (name := "status") (desc := "LBoardMachine$Controls$Status;") C (by decide +kernel) (Or.inl (kw K hw q1856)) (fun _ h => h) (Nat.le_of_ble_eq_true rfl) (Nat.le_of_ble_eq_true rfl) (fs_one (⟨_, ff_12_27 s0 H0 oa D⟩))) ?_
  refine fs_c1 (fs_getf (pc := 136) (n := 155238448) (idx := 84) (ref := "BoardMachine$Controls$ControlUnit") (O := "BoardMachine$Controls$ControlUnit") (name := "mode") (desc := "I") C (by decide +kernel) (Or.inl (kw K hw q1877)) (fun _ h => h) (Nat.le_of_ble_eq_true rfl) (Nat.le_of_ble_eq_true rfl) (fs_one (⟨_, ff_12_37 s0 H0 oa D⟩))) ?_
  refine fs_c1 (fs_inv_virtual (pc := 139) (n := 281034768) C (Nat.le_of_ble_eq_true rfl) (Nat.le_of_ble_eq_true rfl) (fs_lk_virtual (idx := 156) (y := ⟨"BoardMachine$Controls$Status", "putTwo", "(II)V"⟩) (bytes := prog_10_method_5_code) (maxL := 3) (rt := (Option.none : Option Jvm.ClassFile.FieldType)) (d := 1) C (Nat.le_of_ble_eq_true rfl) (Nat.le_of_ble_eq_true rfl) (by decide +kernel) (kw K hw q2951) (kw K hw q389) (kw K hw q2949) (Or.inl (kw K hw q2968)) ⟨by decide, by decide⟩ rfl (Nat.le_of_ble_eq_true rfl) (Nat.le_of_ble_eq_true rfl) (fs_one (⟨_, rfl, kw K hw q2950⟩))) fs_con_mono o4) ?_
  refine fs_c1 (fs_getf (pc := 143) (n := 113295410) (idx := 33) (ref := "BoardMachine$Controls$ControlUnit") (O := "BoardMachine$Controls$ControlUnit") (name := "status") (desc := "LBoardMachine$Controls$Status;") C (by decide +kernel) (Or.inl (kw K hw q1856)) (fun _ h => h) (Nat.le_of_ble_eq_true rfl) (Nat.le_of_ble_eq_true rfl) (fs_one (⟨_, ff_12_27 s0 H0 oa D⟩))) ?_
  refine fs_c1 (fs_getf (pc := 149) (n := 113295410) (idx := 33) (ref := "BoardMachine$Controls$ControlUnit") (O := "BoardMachine$Controls$ControlUnit") (name := "status") (desc := "LBoardMachine$Controls$Status;") C (by decide +kernel) (Or.inl (kw K hw q1856)) (fun _ h => h) (Nat.le_of_ble_eq_true rfl) (Nat.le_of_ble_eq_true rfl) (fs_one (⟨_, ff_12_27 s0 H0 oa D⟩))) ?_
  refine fs_c1 (fs_inv_virtual (pc := 153) (n := 344997904) C (Nat.le_of_ble_eq_true rfl) (Nat.le_of_ble_eq_true rfl) (fs_lk_virtual (idx := 141) (y := ⟨"BoardMachine$Controls$Status", "has", "(I)Z"⟩) (bytes := prog_10_method_2_code) (maxL := 2) (rt := (Option.some Jvm.ClassFile.FieldType.boolean)) (d := 1) C (Nat.le_of_ble_eq_true rfl) (Nat.le_of_ble_eq_true rfl) (by decide +kernel) (kw K hw q2921) (kw K hw q389) (kw K hw q2919) (Or.inl (kw K hw q2918)) ⟨by decide, by decide⟩ rfl (Nat.le_of_ble_eq_true rfl) (Nat.le_of_ble_eq_true rfl) (fs_one (⟨_, rfl, kw K hw q2920⟩))) fs_con_mono o5) ?_
  refine fs_c1 (fs_inv_virtual (pc := 156) (n := 415252496) C (Nat.le_of_ble_eq_true rfl) (Nat.le_of_ble_eq_true rfl) (fs_lk_virtual (idx := 180) (y := ⟨"BoardMachine$Controls$Status", "put", "(IZ)V"⟩) (bytes := prog_10_method_3_code) (maxL := 3) (rt := (Option.none : Option Jvm.ClassFile.FieldType)) (d := 1) C (Nat.le_of_ble_eq_true rfl) (Nat.le_of_ble_eq_true rfl) (by decide +kernel) (kw K hw q2967) (kw K hw q389) (kw K hw q2965) (Or.inl (kw K hw q2964)) ⟨by decide, by decide⟩ rfl (Nat.le_of_ble_eq_true rfl) (Nat.le_of_ble_eq_true rfl) (fs_one (⟨_, rfl, kw K hw q2966⟩))) fs_con_mono o6) ?_
  refine fs_c1 (fs_getf (pc := 160) (n := 113295410) (idx := 33) (ref := "BoardMachine$Controls$ControlUnit") (O := "BoardMachine$Controls$ControlUnit") (name := "status") (desc := "LBoardMachine$Controls$Status;") C (by decide +kernel) (Or.inl (kw K hw q1856)) (fun _ h => h) (Nat.le_of_ble_eq_true rfl) (Nat.le_of_ble_eq_true rfl) (fs_one (⟨_, ff_12_27 s0 H0 oa D⟩))) ?_
  refine fs_c1 (fs_inv_virtual (pc := 165) (n := 415252496) C (Nat.le_of_ble_eq_true rfl) (Nat.le_of_ble_eq_true rfl) (fs_lk_virtual (idx := 180) (y := ⟨"BoardMachine$Controls$Status", "put", "(IZ)V"⟩) (bytes := prog_10_method_3_code) (maxL := 3) (rt := (Option.none : Option Jvm.ClassFile.FieldType)) (d := 1) C (Nat.le_of_ble_eq_true rfl) (Nat.le_of_ble_eq_true rfl) (by decide +kernel) (kw K hw q2967) (kw K hw q389) (kw K hw q2965) (Or.inl (kw K hw q2964)) ⟨by decide, by decide⟩ rfl (Nat.le_of_ble_eq_true rfl) (Nat.le_of_ble_eq_true rfl) (fs_one (⟨_, rfl, kw K hw q2966⟩))) fs_con_mono o6) ?_
  refine fs_c1 (fs_putf (pc := 170) (n := 155238448) (idx := 84) (ref := "BoardMachine$Controls$ControlUnit") (O := "BoardMachine$Controls$ControlUnit") (name := "mode") (desc := "I") (fin := false) (ty := .int) C (by decide +kernel) (Or.inl ⟨rfl, Or.inl (kw K hw q1877)⟩) (fun _ h => h) (Nat.le_of_ble_eq_true rfl) (Nat.le_of_ble_eq_true rfl) (Nat.le_of_ble_eq_true rfl) rfl rfl (by decide) (fs_one (⟨rfl, ff_12_37 s0 H0 oa D⟩))) ?_
  refine fs_c1 (fs_getf (pc := 174) (n := 163627057) (idx := 177) (ref := "BoardMachine$Controls$ControlUnit") (O := "BoardMachine$Controls$ControlUnit") (name := "next") (desc := "J") C (by decide +kernel) (Or.inl (kw K hw q1882)) (fun _ h => h) (Nat.le_of_ble_eq_true rfl) (Nat.le_of_ble_eq_true rfl) (fs_one (⟨_, ff_12_39 s0 H0 oa D⟩))) ?_
  exact fs_c0
theorem hX46_raise : fe_H (sX46_raise FX46_counter FX74_trap FX47_jump) cX46_raise [0] fe_ki [] 20 (fun _ => dX46_raise FX46_raise_0) := by
  intro j pc L st M r hc h
  rcases fe_mem_c hc with rfl | hc
  · obtain ⟨w0, m0, h⟩ := fe_lR_d h
    obtain ⟨w1, m1, h⟩ := fe_lI_d h
    obtain ⟨w2, m2, h⟩ := fe_lL_d h
    obtain ⟨rfl, hz⟩ := fe_t0_d h
    exact ⟨[(0, .ref w0), (1, .int w1), (2, .long w2)], (fe_cs m0 (fe_cs m1 (fe_cs m2 fe_nl))), Or.inr ((bX46_raise_0 FX46_counter FX74_trap FX47_jump FX46_raise_0 w0 w1 w2 M).symm.trans hz)⟩
  exact fe_mem_0 hc
theorem vX46_raise : fe_SB (sX46_raise FX46_counter FX74_trap FX47_jump) := by
  refine ⟨?_, ?_, ?_, ?_⟩
  · intro i As M r h
    rcases fe_bc h with h | h
    · obtain ⟨v0, t0, rfl, g0⟩ := fe_tR_d h
      obtain ⟨v1, t1, rfl, g1⟩ := fe_tL_d g0
      obtain ⟨rfl, hz⟩ := fe_t0_d g1
      exact mX47_jump v0 v1 M r hz
    exact fe_no h
  · intro i As M r h
    exact fe_no h
  · intro i As M r h
    rcases fe_bc h with h | h
    · obtain ⟨v0, t0, rfl, g0⟩ := fe_tR_d h
      obtain ⟨rfl, hz⟩ := fe_t0_d g0
      exact mX46_counter v0 M r hz
    rcases fe_bc h with h | h
    · obtain ⟨v0, t0, rfl, g0⟩ := fe_tR_d h
      obtain ⟨v1, t1, rfl, g1⟩ := fe_tI_d g0
      obtain ⟨v2, t2, rfl, g2⟩ := fe_tI_d g1
      obtain ⟨v3, t3, rfl, g3⟩ := fe_tL_d g2
      obtain ⟨v4, t4, rfl, g4⟩ := fe_tL_d g3
      obtain ⟨rfl, hz⟩ := fe_t0_d g4
      exact mX74_trap v0 v1 v2 v3 v4 M r hz
    exact fe_no h
  · intro i As M r h
    exact fe_no h
theorem eX46_raise (g0 : Nat → Int32 → Int64 → FM → Option (Int32 × FM)) (a0 : Nat) (a1 : Int32) (a2 : Int64) (M : FM) : dX46_raise g0 0 [(0, .ref a0), (1, .int a1), (2, .long a2)] [] M = g0 a0 a1 a2 M := by rfl
theorem mX46_raise (a0 : Nat) (a1 : Int32) (a2 : Int64) (M : FM) (r : Int32 × FM) (h : FX46_raise a0 a1 a2 M = some r) : fm_nx M ≤ fm_nx r.2 ∧ fm_ns M ≤ fm_ns r.2 :=
  fe_mono (L0 := [(0, .ref a0), (1, .int a1), (2, .long a2)]) (vX46_raise) (by decide +kernel) (hX46_raise) (fe_ki_k r) 0 rfl ((eX46_raise FX46_raise_0 a0 a1 a2 M).trans h)
theorem zX46_raise {s0 : State} {H0 : Heap} {oa : Nat → Nat} {D : va_G} (K : fk s0 H0 oa D) (l : Launch) (a0 : Nat) (a1 : Int32) (a2 : Int64) (M : FM) (r : Int32 × FM) (h : FX46_raise a0 a1 a2 M = some r) : fs_Con (fk_E s0 H0 oa D) l 6 ⟨"BoardMachine$Processor", "raise", "(IJ)Z"⟩ prog_86_method_7_code 4 (Option.some Jvm.ClassFile.FieldType.boolean) [.ref a0, .int a1, .long a2] M (some (.int r.1)) r.2 := by
  have o0 : fs_OS (sX46_raise FX46_counter FX74_trap FX47_jump) 0 2 (fs_Con (fk_E s0 H0 oa D) l 1 ⟨"BoardMachine$Processor", "counter", "()J"⟩ prog_86_method_6_code 1 (Option.some Jvm.ClassFile.FieldType.long)) := by
    intro As M r h
    obtain ⟨v0, t0, rfl, g0⟩ := fe_tR_d h
    obtain ⟨rfl, hz⟩ := fe_t0_d g0
    exact zX46_counter K l v0 M r hz
  have o1 : fs_OS (sX46_raise FX46_counter FX74_trap FX47_jump) 1 2 (fs_Con (fk_E s0 H0 oa D) l 5 ⟨"BoardMachine$Controls$ControlUnit", "trap", "(ZIJJ)J"⟩ prog_5_method_9_code 9 (Option.some Jvm.ClassFile.FieldType.long)) := by
    intro As M r h
    obtain ⟨v0, t0, rfl, g0⟩ := fe_tR_d h
    obtain ⟨v1, t1, rfl, g1⟩ := fe_tI_d g0
    obtain ⟨v2, t2, rfl, g2⟩ := fe_tI_d g1
    obtain ⟨v3, t3, rfl, g3⟩ := fe_tL_d g2
    obtain ⟨v4, t4, rfl, g4⟩ := fe_tL_d g3
    obtain ⟨rfl, hz⟩ := fe_t0_d g4
    exact zX74_trap K l v0 v1 v2 v3 v4 M r hz
  have o2 : fs_OS (sX46_raise FX46_counter FX74_trap FX47_jump) 2 0 (fs_Con (fk_E s0 H0 oa D) l 1 ⟨"BoardMachine$Integers$IntegerUnit", "jump", "(J)V"⟩ prog_69_method_3_code 3 (Option.none : Option Jvm.ClassFile.FieldType)) := by
    intro As M r h
    obtain ⟨v0, t0, rfl, g0⟩ := fe_tR_d h
    obtain ⟨v1, t1, rfl, g1⟩ := fe_tL_d g0
    obtain ⟨rfl, hz⟩ := fe_t0_d g1
    exact zX47_jump K l v0 v1 M r hz
  refine fs_method (own := "BoardMachine$Processor") rfl (by decide) K.2.1 (by rw [fe_slen]; exact (Nat.le_of_ble_eq_true rfl)) (mX46_raise a0 a1 a2 M r h) (hX46_raise) 0 rfl (L0 := [(0, .ref a0), (1, .int a1), (2, .long a2)]) (fun E => fe_args_e E [.ref a0, .int a1, .long a2] 0) ((eX46_raise FX46_raise_0 a0 a1 a2 M).trans h) (fe_ki_k r) (fun H hR => fs_nr_o (by decide) (by decide)) ?_
  intro p e s m args below meth c Q C hnm
  have hw : s0.WarmedH s.vm := C.2.2.2.2.1
  refine fe_all C fk_hwr cX46_raise [1, 5, 12, 15, 18] (by decide +kernel) (fe_fil (cps := [(1, 4, .getfield 885305646), (5, 8, .getfield 893694254), (12, 15, .invokevirtual 6368331), (15, 18, .invokevirtual 90189836), (18, 21, .invokevirtual 142670911)]) (by decide +kernel) ?_)
  refine fs_c1 (fs_getf (pc := 1) (n := 885305646) (idx := 12) (ref := "BoardMachine$Processor") (O := "BoardMachine$Processor") (name := "integers") (desc := "LBoardMachine$Integers$IntegerUnit;") C (by decide +kernel) (Or.inl (kw K hw q2078)) (fun _ h => h) (Nat.le_of_ble_eq_true rfl) (Nat.le_of_ble_eq_true rfl) (fs_one (⟨_, ff_75_211 s0 H0 oa D⟩))) ?_
  refine fs_c1 (fs_getf (pc := 5) (n := 893694254) (idx := 55) (ref := "BoardMachine$Processor") (O := "BoardMachine$Processor") (name := "controls") (desc := "LBoardMachine$Controls$ControlUnit;") C (by decide +kernel) (Or.inl (kw K hw q2082)) (fun _ h => h) (Nat.le_of_ble_eq_true rfl) (Nat.le_of_ble_eq_true rfl) (fs_one (⟨_, ff_75_213 s0 H0 oa D⟩))) ?_
  refine fs_c1 (fs_inv_virtual (pc := 12) (n := 6368331) C (Nat.le_of_ble_eq_true rfl) (Nat.le_of_ble_eq_true rfl) (fs_lk_virtual (idx := 231) (y := ⟨"BoardMachine$Processor", "counter", "()J"⟩) (bytes := prog_86_method_6_code) (maxL := 1) (rt := (Option.some Jvm.ClassFile.FieldType.long)) (d := 1) C (Nat.le_of_ble_eq_true rfl) (Nat.le_of_ble_eq_true rfl) (by decide +kernel) (kw K hw q2930) (kw K hw q357) (kw K hw q2929) (Or.inl (kw K hw q2927)) ⟨by decide, by decide⟩ rfl (Nat.le_of_ble_eq_true rfl) (Nat.le_of_ble_eq_true rfl) (fs_one (⟨_, rfl, kw K hw qs39⟩))) fs_con_mono o0) ?_
  refine fs_c1 (fs_inv_virtual (pc := 15) (n := 90189836) C (Nat.le_of_ble_eq_true rfl) (Nat.le_of_ble_eq_true rfl) (fs_lk_virtual (idx := 234) (y := ⟨"BoardMachine$Controls$ControlUnit", "trap", "(ZIJJ)J"⟩) (bytes := prog_5_method_9_code) (maxL := 9) (rt := (Option.some Jvm.ClassFile.FieldType.long)) (d := 5) C (Nat.le_of_ble_eq_true rfl) (Nat.le_of_ble_eq_true rfl) (by decide +kernel) (kw K hw q2934) (kw K hw q385) (kw K hw q2932) (Or.inl (kw K hw q2931)) ⟨by decide, by decide⟩ rfl (Nat.le_of_ble_eq_true rfl) (Nat.le_of_ble_eq_true rfl) (fs_one (⟨_, rfl, kw K hw q2933⟩))) fs_con_mono o1) ?_
  refine fs_c1 (fs_inv_virtual (pc := 18) (n := 142670911) C (Nat.le_of_ble_eq_true rfl) (Nat.le_of_ble_eq_true rfl) (fs_lk_virtual (idx := 92) (y := ⟨"BoardMachine$Integers$IntegerUnit", "jump", "(J)V"⟩) (bytes := prog_69_method_3_code) (maxL := 3) (rt := (Option.none : Option Jvm.ClassFile.FieldType)) (d := 1) C (Nat.le_of_ble_eq_true rfl) (Nat.le_of_ble_eq_true rfl) (by decide +kernel) (kw K hw q2438) (kw K hw q358) (kw K hw q2436) (Or.inl (kw K hw q2435)) ⟨by decide, by decide⟩ rfl (Nat.le_of_ble_eq_true rfl) (Nat.le_of_ble_eq_true rfl) (fs_one (⟨_, rfl, kw K hw q2437⟩))) fs_con_mono o2) ?_
  exact fs_c0
theorem hX46_half (n : Nat) : fe_H (sX46_half FX46_counter (FX46_find n) FX11_has FX46_raise) cX46_half [0, 49, 65] fe_kl [] 48 (fun _ => dX46_half (FX46_half_0 n) (FX46_half_49 n) (FX46_half_65 n)) := by
  intro j pc L st M r hc h
  rcases fe_mem_c hc with rfl | hc
  · obtain ⟨w0, m0, h⟩ := fe_lR_d h
    obtain ⟨w1, m1, h⟩ := fe_lI_d h
    obtain ⟨rfl, hz⟩ := fe_t0_d h
    exact ⟨[(0, .ref w0), (1, .int w1)], (fe_cs m0 (fe_cs m1 fe_nl)), Or.inr ((bX46_half_0 FX46_counter (FX46_find n) FX11_has FX46_raise (FX46_half_0 n ) (FX46_half_49 n ) (FX46_half_65 n ) w0 w1 M).symm.trans hz)⟩
  rcases fe_mem_c hc with rfl | hc
  · obtain ⟨w0, m0, h⟩ := fe_lR_d h
    obtain ⟨w2, m2, h⟩ := fe_lL_d h
    obtain ⟨w4, m4, h⟩ := fe_lL_d h
    obtain ⟨rfl, hz⟩ := fe_t0_d h
    exact ⟨[(0, .ref w0), (2, .long w2), (4, .long w4)], (fe_cs m0 (fe_cs m2 (fe_cs m4 fe_nl))), Or.inr ((bX46_half_49 FX46_counter (FX46_find n) FX11_has FX46_raise (FX46_half_0 n ) (FX46_half_49 n ) (FX46_half_65 n ) w0 w2 w4 M).symm.trans hz)⟩
  rcases fe_mem_c hc with rfl | hc
  · obtain ⟨w2, m2, h⟩ := fe_lL_d h
    obtain ⟨s1, t1, rfl, g1⟩ := fe_tI_d h
    obtain ⟨s0, t0, rfl, g0⟩ := fe_tR_d g1
    obtain ⟨rfl, hz⟩ := fe_t0_d g0
    exact ⟨[(2, .long w2)], (fe_cs m2 fe_nl), Or.inr ((bX46_half_65 FX46_counter (FX46_find n) FX11_has FX46_raise (FX46_half_0 n ) (FX46_half_49 n ) (FX46_half_65 n ) w2 s0 s1 M).symm.trans hz)⟩
  exact fe_mem_0 hc
theorem vX46_half (n : Nat) : fe_SB (sX46_half FX46_counter (FX46_find n) FX11_has FX46_raise) := by
  refine ⟨?_, ?_, ?_, ?_⟩
  · intro i As M r h
    exact fe_no h
  · intro i As M r h
    rcases fe_bc h with h | h
    · obtain ⟨v0, t0, rfl, g0⟩ := fe_tR_d h
      obtain ⟨v1, t1, rfl, g1⟩ := fe_tL_d g0
      obtain ⟨v2, t2, rfl, g2⟩ := fe_tL_d g1
      obtain ⟨rfl, hz⟩ := fe_t0_d g2
      exact mX11_has v0 v1 v2 M r hz
    rcases fe_bc h with h | h
    · obtain ⟨v0, t0, rfl, g0⟩ := fe_tR_d h
      obtain ⟨v1, t1, rfl, g1⟩ := fe_tI_d g0
      obtain ⟨v2, t2, rfl, g2⟩ := fe_tL_d g1
      obtain ⟨rfl, hz⟩ := fe_t0_d g2
      exact mX46_raise v0 v1 v2 M r hz
    exact fe_no h
  · intro i As M r h
    rcases fe_bc h with h | h
    · obtain ⟨v0, t0, rfl, g0⟩ := fe_tR_d h
      obtain ⟨rfl, hz⟩ := fe_t0_d g0
      exact mX46_counter v0 M r hz
    rcases fe_bc h with h | h
    · obtain ⟨v0, t0, rfl, g0⟩ := fe_tR_d h
      obtain ⟨v1, t1, rfl, g1⟩ := fe_tL_d g0
      obtain ⟨v2, t2, rfl, g2⟩ := fe_tI_d g1
      obtain ⟨v3, t3, rfl, g3⟩ := fe_tI_d g2
      obtain ⟨v4, t4, rfl, g4⟩ := fe_tI_d g3
      obtain ⟨rfl, hz⟩ := fe_t0_d g4
      exact mX46_find n v0 v1 v2 v3 v4 M r hz
    exact fe_no h
  · intro i As M r h
    exact fe_no h
theorem eX46_half (g0 : Nat → Int32 → FM → Option (Int64 × FM)) (g49 : Nat → Int64 → Int64 → FM → Option (Int64 × FM)) (g65 : Int64 → Nat → Int32 → FM → Option (Int64 × FM)) (a0 : Nat) (a1 : Int32) (M : FM) : dX46_half g0 g49 g65 0 [(0, .ref a0), (1, .int a1)] [] M = g0 a0 a1 M := by rfl
theorem mX46_half (n : Nat) (a0 : Nat) (a1 : Int32) (M : FM) (r : Int64 × FM) (h : FX46_half n a0 a1 M = some r) : fm_nx M ≤ fm_nx r.2 ∧ fm_ns M ≤ fm_ns r.2 :=
  fe_mono (L0 := [(0, .ref a0), (1, .int a1)]) (vX46_half n) (by decide +kernel) (hX46_half n) (fe_kl_k r) 0 rfl ((eX46_half (FX46_half_0 n ) (FX46_half_49 n ) (FX46_half_65 n ) a0 a1 M).trans h)
theorem zX46_half {s0 : State} {H0 : Heap} {oa : Nat → Nat} {D : va_G} (K : fk s0 H0 oa D) (l : Launch) (n : Nat) (a0 : Nat) (a1 : Int32) (M : FM) (r : Int64 × FM) (h : FX46_half n a0 a1 M = some r) : fs_Con (fk_E s0 H0 oa D) l 10 ⟨"BoardMachine$Processor", "half", "(I)J"⟩ prog_86_method_13_code 6 (Option.some Jvm.ClassFile.FieldType.long) [.ref a0, .int a1] M (some (.long r.1)) r.2 := by
  have o0 : fs_OS (sX46_half FX46_counter (FX46_find n) FX11_has FX46_raise) 0 2 (fs_Con (fk_E s0 H0 oa D) l 1 ⟨"BoardMachine$Processor", "counter", "()J"⟩ prog_86_method_6_code 1 (Option.some Jvm.ClassFile.FieldType.long)) := by
    intro As M r h
    obtain ⟨v0, t0, rfl, g0⟩ := fe_tR_d h
    obtain ⟨rfl, hz⟩ := fe_t0_d g0
    exact zX46_counter K l v0 M r hz
  have o1 : fs_OS (sX46_half FX46_counter (FX46_find n) FX11_has FX46_raise) 1 2 (fs_Con (fk_E s0 H0 oa D) l 9 ⟨"BoardMachine$Processor", "find", "(JIII)J"⟩ prog_86_method_9_code 6 (Option.some Jvm.ClassFile.FieldType.long)) := by
    intro As M r h
    obtain ⟨v0, t0, rfl, g0⟩ := fe_tR_d h
    obtain ⟨v1, t1, rfl, g1⟩ := fe_tL_d g0
    obtain ⟨v2, t2, rfl, g2⟩ := fe_tI_d g1
    obtain ⟨v3, t3, rfl, g3⟩ := fe_tI_d g2
    obtain ⟨v4, t4, rfl, g4⟩ := fe_tI_d g3
    obtain ⟨rfl, hz⟩ := fe_t0_d g4
    exact zX46_find K l n v0 v1 v2 v3 v4 M r hz
  have o2 : fs_OS (sX46_half FX46_counter (FX46_find n) FX11_has FX46_raise) 2 1 (fs_Con (fk_E s0 H0 oa D) l 1 ⟨"BoardMachine$Memories$Ram", "has", "(JJ)Z"⟩ prog_82_method_2_code 7 (Option.some Jvm.ClassFile.FieldType.boolean)) := by
    intro As M r h
    obtain ⟨v0, t0, rfl, g0⟩ := fe_tR_d h
    obtain ⟨v1, t1, rfl, g1⟩ := fe_tL_d g0
    obtain ⟨v2, t2, rfl, g2⟩ := fe_tL_d g1
    obtain ⟨rfl, hz⟩ := fe_t0_d g2
    exact zX11_has K l v0 v1 v2 M r hz
  have o3 : fs_OS (sX46_half FX46_counter (FX46_find n) FX11_has FX46_raise) 3 1 (fs_Con (fk_E s0 H0 oa D) l 6 ⟨"BoardMachine$Processor", "raise", "(IJ)Z"⟩ prog_86_method_7_code 4 (Option.some Jvm.ClassFile.FieldType.boolean)) := by
    intro As M r h
    obtain ⟨v0, t0, rfl, g0⟩ := fe_tR_d h
    obtain ⟨v1, t1, rfl, g1⟩ := fe_tI_d g0
    obtain ⟨v2, t2, rfl, g2⟩ := fe_tL_d g1
    obtain ⟨rfl, hz⟩ := fe_t0_d g2
    exact zX46_raise K l v0 v1 v2 M r hz
  refine fs_method (own := "BoardMachine$Processor") rfl (by decide) K.2.1 (by rw [fe_slen]; exact (Nat.le_of_ble_eq_true rfl)) (mX46_half n a0 a1 M r h) (hX46_half n) 0 rfl (L0 := [(0, .ref a0), (1, .int a1)]) (fun E => fe_args_e E [.ref a0, .int a1] 0) ((eX46_half (FX46_half_0 n ) (FX46_half_49 n ) (FX46_half_65 n ) a0 a1 M).trans h) (fe_kl_k r) (fun H hR => fs_nr_o (by decide) (by decide)) ?_
  intro p e s m args below meth c Q C hnm
  have hw : s0.WarmedH s.vm := C.2.2.2.2.1
  refine fe_all C fk_hwr cX46_half [1, 12, 15, 19, 32, 35, 40, 43, 66, 70] (by decide +kernel) (fe_fil (cps := [(1, 4, .invokevirtual 6368331), (12, 15, .getfield 893694254), (15, 18, .getfield 155238448), (19, 22, .invokevirtual 90254411), (32, 35, .getfield 881111342), (35, 38, .getfield 75542574), (40, 43, .jsr_w (2)), (43, 46, .invokevirtual 147924041), (66, 69, .invokevirtual 215034955), (70, 73, .jsr_w (-1))]) (by decide +kernel) ?_)
  refine fs_c1 (fs_inv_virtual (pc := 1) (n := 6368331) C (Nat.le_of_ble_eq_true rfl) (Nat.le_of_ble_eq_true rfl) (fs_lk_virtual (idx := 231) (y := ⟨"BoardMachine$Processor", "counter", "()J"⟩) (bytes := prog_86_method_6_code) (maxL := 1) (rt := (Option.some Jvm.ClassFile.FieldType.long)) (d := 1) C (Nat.le_of_ble_eq_true rfl) (Nat.le_of_ble_eq_true rfl) (by decide +kernel) (kw K hw q2930) (kw K hw q357) (kw K hw q2929) (Or.inl (kw K hw q2927)) ⟨by decide, by decide⟩ rfl (Nat.le_of_ble_eq_true rfl) (Nat.le_of_ble_eq_true rfl) (fs_one (⟨_, rfl, kw K hw qs39⟩))) fs_con_mono o0) ?_
  refine fs_c1 (fs_getf (pc := 12) (n := 893694254) (idx := 55) (ref := "BoardMachine$Processor") (O := "BoardMachine$Processor") (name := "controls") (desc := "LBoardMachine$Controls$ControlUnit;") C (by decide +kernel) (Or.inl (kw K hw q2082)) (fun _ h => h) (Nat.le_of_ble_eq_true rfl) (Nat.le_of_ble_eq_true rfl) (fs_one (⟨_, ff_75_213 s0 H0 oa D⟩))) ?_
  refine fs_c1 (fs_getf (pc := 15) (n := 155238448) (idx := 202) (ref := "BoardMachine$Controls$ControlUnit") (O := "BoardMachine$Controls$ControlUnit") (name := "mode") (desc := "I") C (by decide +kernel) (Or.inr ⟨_, kF K hw q1878⟩) (fun _ h => h) (Nat.le_of_ble_eq_true rfl) (Nat.le_of_ble_eq_true rfl) (fs_one (⟨_, ff_12_37 s0 H0 oa D⟩))) ?_
  refine fs_c1 (fs_inv_virtual (pc := 19) (n := 90254411) C (Nat.le_of_ble_eq_true rfl) (Nat.le_of_ble_eq_true rfl) (fs_lk_virtual (idx := 293) (y := ⟨"BoardMachine$Processor", "find", "(JIII)J"⟩) (bytes := prog_86_method_9_code) (maxL := 6) (rt := (Option.some Jvm.ClassFile.FieldType.long)) (d := 9) C (Nat.le_of_ble_eq_true rfl) (Nat.le_of_ble_eq_true rfl) (by decide +kernel) (kw K hw q2980) (kw K hw q357) (kw K hw q2979) (Or.inl (kw K hw q2977)) ⟨by decide, by decide⟩ rfl (Nat.le_of_ble_eq_true rfl) (Nat.le_of_ble_eq_true rfl) (fs_one (⟨_, rfl, kw K hw qs42⟩))) fs_con_mono o1) ?_
  refine fs_c1 (fs_getf (pc := 32) (n := 881111342) (idx := 42) (ref := "BoardMachine$Processor") (O := "BoardMachine$Processor") (name := "board") (desc := "LBoardMachine$Board;") C (by decide +kernel) (Or.inl (kw K hw q2077)) (fun _ h => h) (Nat.le_of_ble_eq_true rfl) (Nat.le_of_ble_eq_true rfl) (fs_one (⟨_, ff_75_210 s0 H0 oa D⟩))) ?_
  refine fs_c1 (fs_getf (pc := 35) (n := 75542574) (idx := 63) (ref := "BoardMachine$Board") (O := "BoardMachine$Board") (name := "ram") (desc := "LBoardMachine$Memories$Ram;") C (by decide +kernel) (Or.inr ⟨_, kF K hw q1037⟩) (fun _ h => h) (Nat.le_of_ble_eq_true rfl) (Nat.le_of_ble_eq_true rfl) (fs_one (⟨_, ff_11_18 s0 H0 oa D⟩))) ?_
  refine fs_c1 (fs_ldcl (pc := 40) (idx := 297) (v := 2) C (by decide +kernel) (kw K hw q3092)) ?_
  refine fs_c1 (fs_inv_virtual (pc := 43) (n := 147924041) C (Nat.le_of_ble_eq_true rfl) (Nat.le_of_ble_eq_true rfl) (fs_lk_virtual (idx := 269) (y := ⟨"BoardMachine$Memories$Ram", "has", "(JJ)Z"⟩) (bytes := prog_82_method_2_code) (maxL := 7) (rt := (Option.some Jvm.ClassFile.FieldType.boolean)) (d := 1) C (Nat.le_of_ble_eq_true rfl) (Nat.le_of_ble_eq_true rfl) (by decide +kernel) (kw K hw q2730) (kw K hw q321) (kw K hw q2728) (Or.inl (kw K hw q3093)) ⟨by decide, by decide⟩ rfl (Nat.le_of_ble_eq_true rfl) (Nat.le_of_ble_eq_true rfl) (fs_one (⟨_, rfl, kw K hw q2729⟩))) fs_con_mono o2) ?_
  refine fs_c1 (fs_inv_virtual (pc := 66) (n := 215034955) C (Nat.le_of_ble_eq_true rfl) (Nat.le_of_ble_eq_true rfl) (fs_lk_virtual (idx := 248) (y := ⟨"BoardMachine$Processor", "raise", "(IJ)Z"⟩) (bytes := prog_86_method_7_code) (maxL := 4) (rt := (Option.some Jvm.ClassFile.FieldType.boolean)) (d := 6) C (Nat.le_of_ble_eq_true rfl) (Nat.le_of_ble_eq_true rfl) (by decide +kernel) (kw K hw q3097) (kw K hw q357) (kw K hw q3096) (Or.inl (kw K hw q3094)) ⟨by decide, by decide⟩ rfl (Nat.le_of_ble_eq_true rfl) (Nat.le_of_ble_eq_true rfl) (fs_one (⟨_, rfl, kw K hw qs49⟩))) fs_con_mono o3) ?_
  refine fs_c1 (fs_ldcl (pc := 70) (idx := 299) (v := -1) C (by decide +kernel) (kw K hw q3098)) ?_
  exact fs_c0
theorem hX103_bits : fe_H (sX103_bits) cX103_bits [0] fe_ki [] 20 (fun _ => dX103_bits FX103_bits_0) := by
  intro j pc L st M r hc h
  rcases fe_mem_c hc with rfl | hc
  · obtain ⟨w0, m0, h⟩ := fe_lI_d h
    obtain ⟨w1, m1, h⟩ := fe_lI_d h
    obtain ⟨w2, m2, h⟩ := fe_lI_d h
    obtain ⟨rfl, hz⟩ := fe_t0_d h
    exact ⟨[(0, .int w0), (1, .int w1), (2, .int w2)], (fe_cs m0 (fe_cs m1 (fe_cs m2 fe_nl))), Or.inr ((bX103_bits_0 FX103_bits_0 w0 w1 w2 M).symm.trans hz)⟩
  exact fe_mem_0 hc
theorem vX103_bits : fe_SB (sX103_bits) := by
  refine ⟨?_, ?_, ?_, ?_⟩
  · intro i As M r h
    exact fe_no h
  · intro i As M r h
    exact fe_no h
  · intro i As M r h
    exact fe_no h
  · intro i As M r h
    exact fe_no h
theorem eX103_bits (g0 : Int32 → Int32 → Int32 → FM → Option (Int32 × FM)) (a0 : Int32) (a1 : Int32) (a2 : Int32) (M : FM) : dX103_bits g0 0 [(0, .int a0), (1, .int a1), (2, .int a2)] [] M = g0 a0 a1 a2 M := by rfl
theorem mX103_bits (a0 : Int32) (a1 : Int32) (a2 : Int32) (M : FM) (r : Int32 × FM) (h : FX103_bits a0 a1 a2 M = some r) : fm_nx M ≤ fm_nx r.2 ∧ fm_ns M ≤ fm_ns r.2 :=
  fe_mono (L0 := [(0, .int a0), (1, .int a1), (2, .int a2)]) (vX103_bits) (by decide +kernel) (hX103_bits) (fe_ki_k r) 0 rfl ((eX103_bits FX103_bits_0 a0 a1 a2 M).trans h)
theorem zX103_bits {s0 : State} {H0 : Heap} {oa : Nat → Nat} {D : va_G} (K : fk s0 H0 oa D) (l : Launch) (a0 : Int32) (a1 : Int32) (a2 : Int32) (M : FM) (r : Int32 × FM) (h : FX103_bits a0 a1 a2 M = some r) : fs_Con (fk_E s0 H0 oa D) l 1 ⟨"BoardMachine$Halves$Words", "bits", "(III)I"⟩ prog_56_method_2_code 3 (Option.some Jvm.ClassFile.FieldType.int) [.int a0, .int a1, .int a2] M (some (.int r.1)) r.2 := by
  refine fs_method (own := "BoardMachine$Halves$Words") rfl (by decide) K.2.1 (by rw [fe_slen]; exact (Nat.le_of_ble_eq_true rfl)) (mX103_bits a0 a1 a2 M r h) (hX103_bits) 0 rfl (L0 := [(0, .int a0), (1, .int a1), (2, .int a2)]) (fun E => fe_args_e E [.int a0, .int a1, .int a2] 0) ((eX103_bits FX103_bits_0 a0 a1 a2 M).trans h) (fe_ki_k r) (fun H hR => fs_nr_o (by decide) (by decide)) ?_
  intro p e s m args below meth c Q C hnm
  have hw : s0.WarmedH s.vm := C.2.2.2.2.1
  refine fe_all C fk_hwr cX103_bits [] (by decide +kernel) (fe_fil (cps := []) (by decide +kernel) ?_)
  exact fs_c0
theorem hX35_read (n : Nat) : fe_H (sX35_read FX103_bits) cX35_read [0, 4, 86] fe_ki [4] 62 (fun j => dX35_read (FX35_read_0 n (FX35_read_L4 n j)) (FX35_read_86 n (FX35_read_L4 n j)) (FX35_read_L4 n j)) := by
  intro j pc L st M r hc h
  rcases fe_mem_c hc with rfl | hc
  · obtain ⟨w0, m0, h⟩ := fe_lR_d h
    obtain ⟨w1, m1, h⟩ := fe_lI_d h
    obtain ⟨rfl, hz⟩ := fe_t0_d h
    exact ⟨[(0, .ref w0), (1, .int w1)], (fe_cs m0 (fe_cs m1 fe_nl)), Or.inr ((bX35_read_0 FX103_bits (FX35_read_0 n (FX35_read_L4 n j)) (FX35_read_86 n (FX35_read_L4 n j)) (FX35_read_L4 n j) w0 w1 M).symm.trans hz)⟩
  rcases fe_mem_c hc with rfl | hc
  · obtain ⟨w0, m0, h⟩ := fe_lR_d h
    obtain ⟨w1, m1, h⟩ := fe_lI_d h
    obtain ⟨w2, m2, h⟩ := fe_lI_d h
    obtain ⟨w3, m3, h⟩ := fe_lI_d h
    obtain ⟨rfl, hz⟩ := fe_t0_d h
    cases j with
    | zero => exact fe_no hz
    | succ j => exact ⟨[(0, .ref w0), (1, .int w1), (2, .int w2), (3, .int w3)], (fe_cs m0 (fe_cs m1 (fe_cs m2 (fe_cs m3 fe_nl)))), Or.inl ⟨j, rfl, (bX35_read_4 FX103_bits (FX35_read_0 n (FX35_read_L4 n j)) (FX35_read_86 n (FX35_read_L4 n j)) (FX35_read_L4 n j) w0 w1 w2 w3 M).symm.trans hz⟩⟩
  rcases fe_mem_c hc with rfl | hc
  · obtain ⟨s0, t0, rfl, g0⟩ := fe_tI_d h
    obtain ⟨rfl, hz⟩ := fe_t0_d g0
    exact ⟨[], fe_nl, Or.inr ((bX35_read_86 FX103_bits (FX35_read_0 n (FX35_read_L4 n j)) (FX35_read_86 n (FX35_read_L4 n j)) (FX35_read_L4 n j) s0 M).symm.trans hz)⟩
  exact fe_mem_0 hc
theorem vX35_read (n : Nat) : fe_SB (sX35_read FX103_bits) := by
  refine ⟨?_, ?_, ?_, ?_⟩
  · intro i As M r h
    exact fe_no h
  · intro i As M r h
    rcases fe_bc h with h | h
    · obtain ⟨v0, t0, rfl, g0⟩ := fe_tI_d h
      obtain ⟨v1, t1, rfl, g1⟩ := fe_tI_d g0
      obtain ⟨v2, t2, rfl, g2⟩ := fe_tI_d g1
      obtain ⟨rfl, hz⟩ := fe_t0_d g2
      exact mX103_bits v0 v1 v2 M r hz
    exact fe_no h
  · intro i As M r h
    exact fe_no h
  · intro i As M r h
    exact fe_no h
theorem eX35_read (g0 : Nat → Int32 → FM → Option (Int32 × FM)) (g86 : Int32 → FM → Option (Int32 × FM)) (k4 : Nat → Int32 → Int32 → Int32 → FM → Option (Int32 × FM)) (a0 : Nat) (a1 : Int32) (M : FM) : dX35_read g0 g86 k4 0 [(0, .ref a0), (1, .int a1)] [] M = g0 a0 a1 M := by rfl
theorem mX35_read (n : Nat) (a0 : Nat) (a1 : Int32) (M : FM) (r : Int32 × FM) (h : FX35_read n a0 a1 M = some r) : fm_nx M ≤ fm_nx r.2 ∧ fm_ns M ≤ fm_ns r.2 :=
  fe_mono (L0 := [(0, .ref a0), (1, .int a1)]) (vX35_read n) (by decide +kernel) (hX35_read n) (fe_ki_k r) n rfl ((eX35_read (FX35_read_0 n (FX35_read_L4 n n)) (FX35_read_86 n (FX35_read_L4 n n)) (FX35_read_L4 n n) a0 a1 M).trans h)
theorem zX35_read {s0 : State} {H0 : Heap} {oa : Nat → Nat} {D : va_G} (K : fk s0 H0 oa D) (l : Launch) (n : Nat) (a0 : Nat) (a1 : Int32) (M : FM) (r : Int32 × FM) (h : FX35_read n a0 a1 M = some r) : fs_Con (fk_E s0 H0 oa D) l 2 ⟨"BoardMachine$Halves$Layout", "read", "(I)I"⟩ prog_48_method_2_code 4 (Option.some Jvm.ClassFile.FieldType.int) [.ref a0, .int a1] M (some (.int r.1)) r.2 := by
  have o0 : fs_OS (sX35_read FX103_bits) 0 1 (fs_Con (fk_E s0 H0 oa D) l 1 ⟨"BoardMachine$Halves$Words", "bits", "(III)I"⟩ prog_56_method_2_code 3 (Option.some Jvm.ClassFile.FieldType.int)) := by
    intro As M r h
    obtain ⟨v0, t0, rfl, g0⟩ := fe_tI_d h
    obtain ⟨v1, t1, rfl, g1⟩ := fe_tI_d g0
    obtain ⟨v2, t2, rfl, g2⟩ := fe_tI_d g1
    obtain ⟨rfl, hz⟩ := fe_t0_d g2
    exact zX103_bits K l v0 v1 v2 M r hz
  refine fs_method (own := "BoardMachine$Halves$Layout") rfl (by decide) K.2.1 (by rw [fe_slen]; exact (Nat.le_of_ble_eq_true rfl)) (mX35_read n a0 a1 M r h) (hX35_read n) n rfl (L0 := [(0, .ref a0), (1, .int a1)]) (fun E => fe_args_e E [.ref a0, .int a1] 0) ((eX35_read (FX35_read_0 n (FX35_read_L4 n n)) (FX35_read_86 n (FX35_read_L4 n n)) (FX35_read_L4 n n) a0 a1 M).trans h) (fe_ki_k r) (fun H hR => fs_nr_o (by decide) (by decide)) ?_
  intro p e s m args below meth c Q C hnm
  have hw : s0.WarmedH s.vm := C.2.2.2.2.1
  refine fe_all C fk_hwr cX35_read [6, 16, 22, 33, 38, 42, 59, 73, 81] (by decide +kernel) (fe_fil (cps := [(6, 9, .getfield 524460202), (16, 19, .getfield 524460202), (22, 25, .getfield 524460202), (33, 36, .getfield 524460202), (38, 41, .invokestatic 13), (42, 45, .getfield 524460202), (59, 62, .getfield 528654504), (73, 76, .getfield 528654504), (81, 84, .getfield 528654504)]) (by decide +kernel) ?_)
  refine fs_c1 (fs_getf (pc := 6) (n := 524460202) (idx := 7) (ref := "BoardMachine$Halves$Layout") (O := "BoardMachine$Halves$Layout") (name := "places") (desc := "[I") C (by decide +kernel) (Or.inl (kw K hw q1083)) (fun _ h => h) (Nat.le_of_ble_eq_true rfl) (Nat.le_of_ble_eq_true rfl) (fs_one (⟨_, ff_42_125 s0 H0 oa D⟩))) ?_
  refine fs_c1 (fs_getf (pc := 16) (n := 524460202) (idx := 7) (ref := "BoardMachine$Halves$Layout") (O := "BoardMachine$Halves$Layout") (name := "places") (desc := "[I") C (by decide +kernel) (Or.inl (kw K hw q1083)) (fun _ h => h) (Nat.le_of_ble_eq_true rfl) (Nat.le_of_ble_eq_true rfl) (fs_one (⟨_, ff_42_125 s0 H0 oa D⟩))) ?_
  refine fs_c1 (fs_getf (pc := 22) (n := 524460202) (idx := 7) (ref := "BoardMachine$Halves$Layout") (O := "BoardMachine$Halves$Layout") (name := "places") (desc := "[I") C (by decide +kernel) (Or.inl (kw K hw q1083)) (fun _ h => h) (Nat.le_of_ble_eq_true rfl) (Nat.le_of_ble_eq_true rfl) (fs_one (⟨_, ff_42_125 s0 H0 oa D⟩))) ?_
  refine fs_c1 (fs_getf (pc := 33) (n := 524460202) (idx := 7) (ref := "BoardMachine$Halves$Layout") (O := "BoardMachine$Halves$Layout") (name := "places") (desc := "[I") C (by decide +kernel) (Or.inl (kw K hw q1083)) (fun _ h => h) (Nat.le_of_ble_eq_true rfl) (Nat.le_of_ble_eq_true rfl) (fs_one (⟨_, ff_42_125 s0 H0 oa D⟩))) ?_
  refine fs_c1 (fs_inv_static (pc := 38) (n := 13) C (fs_lk_static (idx := 17) (y := ⟨"BoardMachine$Halves$Words", "bits", "(III)I"⟩) (bytes := prog_56_method_2_code) (maxL := 3) (rt := (Option.some Jvm.ClassFile.FieldType.int)) (d := 1) C (by decide +kernel) (kw K hw q3117) (kw K hw q428) (kw K hw q3116) (Or.inl (kw K hw q3115)) ⟨by decide, by decide⟩ rfl (Nat.le_of_ble_eq_true rfl) (Nat.le_of_ble_eq_true rfl)) fs_con_mono o0) ?_
  refine fs_c1 (fs_getf (pc := 42) (n := 524460202) (idx := 7) (ref := "BoardMachine$Halves$Layout") (O := "BoardMachine$Halves$Layout") (name := "places") (desc := "[I") C (by decide +kernel) (Or.inl (kw K hw q1083)) (fun _ h => h) (Nat.le_of_ble_eq_true rfl) (Nat.le_of_ble_eq_true rfl) (fs_one (⟨_, ff_42_125 s0 H0 oa D⟩))) ?_
  refine fs_c1 (fs_getf (pc := 59) (n := 528654504) (idx := 13) (ref := "BoardMachine$Halves$Layout") (O := "BoardMachine$Halves$Layout") (name := "sign") (desc := "I") C (by decide +kernel) (Or.inl (kw K hw q1084)) (fun _ h => h) (Nat.le_of_ble_eq_true rfl) (Nat.le_of_ble_eq_true rfl) (fs_one (⟨_, ff_42_126 s0 H0 oa D⟩))) ?_
  refine fs_c1 (fs_getf (pc := 73) (n := 528654504) (idx := 13) (ref := "BoardMachine$Halves$Layout") (O := "BoardMachine$Halves$Layout") (name := "sign") (desc := "I") C (by decide +kernel) (Or.inl (kw K hw q1084)) (fun _ h => h) (Nat.le_of_ble_eq_true rfl) (Nat.le_of_ble_eq_true rfl) (fs_one (⟨_, ff_42_126 s0 H0 oa D⟩))) ?_
  refine fs_c1 (fs_getf (pc := 81) (n := 528654504) (idx := 13) (ref := "BoardMachine$Halves$Layout") (O := "BoardMachine$Halves$Layout") (name := "sign") (desc := "I") C (by decide +kernel) (Or.inl (kw K hw q1084)) (fun _ h => h) (Nat.le_of_ble_eq_true rfl) (Nat.le_of_ble_eq_true rfl) (fs_one (⟨_, ff_42_126 s0 H0 oa D⟩))) ?_
  exact fs_c0
theorem hX36_s : fe_H (sX36_s FX103_bits) cX36_s [0] fe_ki [] 20 (fun _ => dX36_s FX36_s_0) := by
  intro j pc L st M r hc h
  rcases fe_mem_c hc with rfl | hc
  · obtain ⟨w0, m0, h⟩ := fe_lI_d h
    obtain ⟨rfl, hz⟩ := fe_t0_d h
    exact ⟨[(0, .int w0)], (fe_cs m0 fe_nl), Or.inr ((bX36_s_0 FX103_bits FX36_s_0 w0 M).symm.trans hz)⟩
  exact fe_mem_0 hc
theorem vX36_s : fe_SB (sX36_s FX103_bits) := by
  refine ⟨?_, ?_, ?_, ?_⟩
  · intro i As M r h
    exact fe_no h
  · intro i As M r h
    rcases fe_bc h with h | h
    · obtain ⟨v0, t0, rfl, g0⟩ := fe_tI_d h
      obtain ⟨v1, t1, rfl, g1⟩ := fe_tI_d g0
      obtain ⟨v2, t2, rfl, g2⟩ := fe_tI_d g1
      obtain ⟨rfl, hz⟩ := fe_t0_d g2
      exact mX103_bits v0 v1 v2 M r hz
    exact fe_no h
  · intro i As M r h
    exact fe_no h
  · intro i As M r h
    exact fe_no h
theorem eX36_s (g0 : Int32 → FM → Option (Int32 × FM)) (a0 : Int32) (M : FM) : dX36_s g0 0 [(0, .int a0)] [] M = g0 a0 M := by rfl
theorem mX36_s (a0 : Int32) (M : FM) (r : Int32 × FM) (h : FX36_s a0 M = some r) : fm_nx M ≤ fm_nx r.2 ∧ fm_ns M ≤ fm_ns r.2 :=
  fe_mono (L0 := [(0, .int a0)]) (vX36_s) (by decide +kernel) (hX36_s) (fe_ki_k r) 0 rfl ((eX36_s FX36_s_0 a0 M).trans h)
theorem zX36_s {s0 : State} {H0 : Heap} {oa : Nat → Nat} {D : va_G} (K : fk s0 H0 oa D) (l : Launch) (a0 : Int32) (M : FM) (r : Int32 × FM) (h : FX36_s a0 M = some r) : fs_Con (fk_E s0 H0 oa D) l 2 ⟨"BoardMachine$Halves$Line", "s", "(I)I"⟩ prog_49_method_5_code 1 (Option.some Jvm.ClassFile.FieldType.int) [.int a0] M (some (.int r.1)) r.2 := by
  have o0 : fs_OS (sX36_s FX103_bits) 0 1 (fs_Con (fk_E s0 H0 oa D) l 1 ⟨"BoardMachine$Halves$Words", "bits", "(III)I"⟩ prog_56_method_2_code 3 (Option.some Jvm.ClassFile.FieldType.int)) := by
    intro As M r h
    obtain ⟨v0, t0, rfl, g0⟩ := fe_tI_d h
    obtain ⟨v1, t1, rfl, g1⟩ := fe_tI_d g0
    obtain ⟨v2, t2, rfl, g2⟩ := fe_tI_d g1
    obtain ⟨rfl, hz⟩ := fe_t0_d g2
    exact zX103_bits K l v0 v1 v2 M r hz
  refine fs_method (own := "BoardMachine$Halves$Line") rfl (by decide) K.2.1 (by rw [fe_slen]; exact (Nat.le_of_ble_eq_true rfl)) (mX36_s a0 M r h) (hX36_s) 0 rfl (L0 := [(0, .int a0)]) (fun E => fe_args_e E [.int a0] 0) ((eX36_s FX36_s_0 a0 M).trans h) (fe_ki_k r) (fun H hR => fs_nr_o (by decide) (by decide)) ?_
  intro p e s m args below meth c Q C hnm
  have hw : s0.WarmedH s.vm := C.2.2.2.2.1
  refine fe_all C fk_hwr cX36_s [5] (by decide +kernel) (fe_fil (cps := [(5, 8, .invokestatic 13)]) (by decide +kernel) ?_)
  refine fs_c1 (fs_inv_static (pc := 5) (n := 13) C (fs_lk_static (idx := 22) (y := ⟨"BoardMachine$Halves$Words", "bits", "(III)I"⟩) (bytes := prog_56_method_2_code) (maxL := 3) (rt := (Option.some Jvm.ClassFile.FieldType.int)) (d := 1) C (by decide +kernel) (kw K hw q3117) (kw K hw q428) (kw K hw q3116) (Or.inl (kw K hw q3122)) ⟨by decide, by decide⟩ rfl (Nat.le_of_ble_eq_true rfl) (Nat.le_of_ble_eq_true rfl)) fs_con_mono o0) ?_
  exact fs_c0
theorem hX36_p : fe_H (sX36_p FX103_bits) cX36_p [0] fe_ki [] 20 (fun _ => dX36_p FX36_p_0) := by
  intro j pc L st M r hc h
  rcases fe_mem_c hc with rfl | hc
  · obtain ⟨w0, m0, h⟩ := fe_lI_d h
    obtain ⟨rfl, hz⟩ := fe_t0_d h
    exact ⟨[(0, .int w0)], (fe_cs m0 fe_nl), Or.inr ((bX36_p_0 FX103_bits FX36_p_0 w0 M).symm.trans hz)⟩
  exact fe_mem_0 hc
theorem vX36_p : fe_SB (sX36_p FX103_bits) := by
  refine ⟨?_, ?_, ?_, ?_⟩
  · intro i As M r h
    exact fe_no h
  · intro i As M r h
    rcases fe_bc h with h | h
    · obtain ⟨v0, t0, rfl, g0⟩ := fe_tI_d h
      obtain ⟨v1, t1, rfl, g1⟩ := fe_tI_d g0
      obtain ⟨v2, t2, rfl, g2⟩ := fe_tI_d g1
      obtain ⟨rfl, hz⟩ := fe_t0_d g2
      exact mX103_bits v0 v1 v2 M r hz
    exact fe_no h
  · intro i As M r h
    exact fe_no h
  · intro i As M r h
    exact fe_no h
theorem eX36_p (g0 : Int32 → FM → Option (Int32 × FM)) (a0 : Int32) (M : FM) : dX36_p g0 0 [(0, .int a0)] [] M = g0 a0 M := by rfl
theorem mX36_p (a0 : Int32) (M : FM) (r : Int32 × FM) (h : FX36_p a0 M = some r) : fm_nx M ≤ fm_nx r.2 ∧ fm_ns M ≤ fm_ns r.2 :=
  fe_mono (L0 := [(0, .int a0)]) (vX36_p) (by decide +kernel) (hX36_p) (fe_ki_k r) 0 rfl ((eX36_p FX36_p_0 a0 M).trans h)
theorem zX36_p {s0 : State} {H0 : Heap} {oa : Nat → Nat} {D : va_G} (K : fk s0 H0 oa D) (l : Launch) (a0 : Int32) (M : FM) (r : Int32 × FM) (h : FX36_p a0 M = some r) : fs_Con (fk_E s0 H0 oa D) l 2 ⟨"BoardMachine$Halves$Line", "p", "(I)I"⟩ prog_49_method_4_code 1 (Option.some Jvm.ClassFile.FieldType.int) [.int a0] M (some (.int r.1)) r.2 := by
  have o0 : fs_OS (sX36_p FX103_bits) 0 1 (fs_Con (fk_E s0 H0 oa D) l 1 ⟨"BoardMachine$Halves$Words", "bits", "(III)I"⟩ prog_56_method_2_code 3 (Option.some Jvm.ClassFile.FieldType.int)) := by
    intro As M r h
    obtain ⟨v0, t0, rfl, g0⟩ := fe_tI_d h
    obtain ⟨v1, t1, rfl, g1⟩ := fe_tI_d g0
    obtain ⟨v2, t2, rfl, g2⟩ := fe_tI_d g1
    obtain ⟨rfl, hz⟩ := fe_t0_d g2
    exact zX103_bits K l v0 v1 v2 M r hz
  refine fs_method (own := "BoardMachine$Halves$Line") rfl (by decide) K.2.1 (by rw [fe_slen]; exact (Nat.le_of_ble_eq_true rfl)) (mX36_p a0 M r h) (hX36_p) 0 rfl (L0 := [(0, .int a0)]) (fun E => fe_args_e E [.int a0] 0) ((eX36_p FX36_p_0 a0 M).trans h) (fe_ki_k r) (fun H hR => fs_nr_o (by decide) (by decide)) ?_
  intro p e s m args below meth c Q C hnm
  have hw : s0.WarmedH s.vm := C.2.2.2.2.1
  refine fe_all C fk_hwr cX36_p [7] (by decide +kernel) (fe_fil (cps := [(7, 10, .invokestatic 13)]) (by decide +kernel) ?_)
  refine fs_c1 (fs_inv_static (pc := 7) (n := 13) C (fs_lk_static (idx := 22) (y := ⟨"BoardMachine$Halves$Words", "bits", "(III)I"⟩) (bytes := prog_56_method_2_code) (maxL := 3) (rt := (Option.some Jvm.ClassFile.FieldType.int)) (d := 1) C (by decide +kernel) (kw K hw q3117) (kw K hw q428) (kw K hw q3116) (Or.inl (kw K hw q3122)) ⟨by decide, by decide⟩ rfl (Nat.le_of_ble_eq_true rfl) (Nat.le_of_ble_eq_true rfl)) fs_con_mono o0) ?_
  exact fs_c0
theorem hX103_ofS : fe_H (sX103_ofS FX103_bits) cX103_ofS [0] fe_ki [] 33 (fun _ => dX103_ofS FX103_ofS_0) := by
  intro j pc L st M r hc h
  rcases fe_mem_c hc with rfl | hc
  · obtain ⟨w0, m0, h⟩ := fe_lI_d h
    obtain ⟨w1, m1, h⟩ := fe_lI_d h
    obtain ⟨w2, m2, h⟩ := fe_lI_d h
    obtain ⟨w3, m3, h⟩ := fe_lI_d h
    obtain ⟨w4, m4, h⟩ := fe_lI_d h
    obtain ⟨rfl, hz⟩ := fe_t0_d h
    exact ⟨[(0, .int w0), (1, .int w1), (2, .int w2), (3, .int w3), (4, .int w4)], (fe_cs m0 (fe_cs m1 (fe_cs m2 (fe_cs m3 (fe_cs m4 fe_nl))))), Or.inr ((bX103_ofS_0 FX103_bits FX103_ofS_0 w0 w1 w2 w3 w4 M).symm.trans hz)⟩
  exact fe_mem_0 hc
theorem vX103_ofS : fe_SB (sX103_ofS FX103_bits) := by
  refine ⟨?_, ?_, ?_, ?_⟩
  · intro i As M r h
    exact fe_no h
  · intro i As M r h
    rcases fe_bc h with h | h
    · obtain ⟨v0, t0, rfl, g0⟩ := fe_tI_d h
      obtain ⟨v1, t1, rfl, g1⟩ := fe_tI_d g0
      obtain ⟨v2, t2, rfl, g2⟩ := fe_tI_d g1
      obtain ⟨rfl, hz⟩ := fe_t0_d g2
      exact mX103_bits v0 v1 v2 M r hz
    exact fe_no h
  · intro i As M r h
    exact fe_no h
  · intro i As M r h
    exact fe_no h
theorem eX103_ofS (g0 : Int32 → Int32 → Int32 → Int32 → Int32 → FM → Option (Int32 × FM)) (a0 : Int32) (a1 : Int32) (a2 : Int32) (a3 : Int32) (a4 : Int32) (M : FM) : dX103_ofS g0 0 [(0, .int a0), (1, .int a1), (2, .int a2), (3, .int a3), (4, .int a4)] [] M = g0 a0 a1 a2 a3 a4 M := by rfl
theorem mX103_ofS (a0 : Int32) (a1 : Int32) (a2 : Int32) (a3 : Int32) (a4 : Int32) (M : FM) (r : Int32 × FM) (h : FX103_ofS a0 a1 a2 a3 a4 M = some r) : fm_nx M ≤ fm_nx r.2 ∧ fm_ns M ≤ fm_ns r.2 :=
  fe_mono (L0 := [(0, .int a0), (1, .int a1), (2, .int a2), (3, .int a3), (4, .int a4)]) (vX103_ofS) (by decide +kernel) (hX103_ofS) (fe_ki_k r) 0 rfl ((eX103_ofS FX103_ofS_0 a0 a1 a2 a3 a4 M).trans h)
theorem zX103_ofS {s0 : State} {H0 : Heap} {oa : Nat → Nat} {D : va_G} (K : fk s0 H0 oa D) (l : Launch) (a0 : Int32) (a1 : Int32) (a2 : Int32) (a3 : Int32) (a4 : Int32) (M : FM) (r : Int32 × FM) (h : FX103_ofS a0 a1 a2 a3 a4 M = some r) : fs_Con (fk_E s0 H0 oa D) l 2 ⟨"BoardMachine$Halves$Words", "ofS", "(IIIII)I"⟩ prog_56_method_5_code 5 (Option.some Jvm.ClassFile.FieldType.int) [.int a0, .int a1, .int a2, .int a3, .int a4] M (some (.int r.1)) r.2 := by
  have o0 : fs_OS (sX103_ofS FX103_bits) 0 1 (fs_Con (fk_E s0 H0 oa D) l 1 ⟨"BoardMachine$Halves$Words", "bits", "(III)I"⟩ prog_56_method_2_code 3 (Option.some Jvm.ClassFile.FieldType.int)) := by
    intro As M r h
    obtain ⟨v0, t0, rfl, g0⟩ := fe_tI_d h
    obtain ⟨v1, t1, rfl, g1⟩ := fe_tI_d g0
    obtain ⟨v2, t2, rfl, g2⟩ := fe_tI_d g1
    obtain ⟨rfl, hz⟩ := fe_t0_d g2
    exact zX103_bits K l v0 v1 v2 M r hz
  refine fs_method (own := "BoardMachine$Halves$Words") rfl (by decide) K.2.1 (by rw [fe_slen]; exact (Nat.le_of_ble_eq_true rfl)) (mX103_ofS a0 a1 a2 a3 a4 M r h) (hX103_ofS) 0 rfl (L0 := [(0, .int a0), (1, .int a1), (2, .int a2), (3, .int a3), (4, .int a4)]) (fun E => fe_args_e E [.int a0, .int a1, .int a2, .int a3, .int a4] 0) ((eX103_ofS FX103_ofS_0 a0 a1 a2 a3 a4 M).trans h) (fe_ki_k r) (fun H hR => fs_nr_o (by decide) (by decide)) ?_
  intro p e s m args below meth c Q C hnm
  have hw : s0.WarmedH s.vm := C.2.2.2.2.1
  refine fe_all C fk_hwr cX103_ofS [5, 32] (by decide +kernel) (fe_fil (cps := [(5, 8, .invokestatic 13), (32, 35, .invokestatic 13)]) (by decide +kernel) ?_)
  refine fs_c1 (fs_inv_static (pc := 5) (n := 13) C (fs_lk_static (idx := 7) (y := ⟨"BoardMachine$Halves$Words", "bits", "(III)I"⟩) (bytes := prog_56_method_2_code) (maxL := 3) (rt := (Option.some Jvm.ClassFile.FieldType.int)) (d := 1) C (by decide +kernel) (kw K hw q3117) (kw K hw q428) (kw K hw q3116) (Or.inl (kw K hw q3130)) ⟨by decide, by decide⟩ rfl (Nat.le_of_ble_eq_true rfl) (Nat.le_of_ble_eq_true rfl)) fs_con_mono o0) ?_
  refine fs_c1 (fs_inv_static (pc := 32) (n := 13) C (fs_lk_static (idx := 7) (y := ⟨"BoardMachine$Halves$Words", "bits", "(III)I"⟩) (bytes := prog_56_method_2_code) (maxL := 3) (rt := (Option.some Jvm.ClassFile.FieldType.int)) (d := 1) C (by decide +kernel) (kw K hw q3117) (kw K hw q428) (kw K hw q3116) (Or.inl (kw K hw q3130)) ⟨by decide, by decide⟩ rfl (Nat.le_of_ble_eq_true rfl) (Nat.le_of_ble_eq_true rfl)) fs_con_mono o0) ?_
  exact fs_c0
theorem hX103_ofI : fe_H (sX103_ofI) cX103_ofI [0] fe_ki [] 23 (fun _ => dX103_ofI FX103_ofI_0) := by
  intro j pc L st M r hc h
  rcases fe_mem_c hc with rfl | hc
  · obtain ⟨w0, m0, h⟩ := fe_lI_d h
    obtain ⟨w1, m1, h⟩ := fe_lI_d h
    obtain ⟨w2, m2, h⟩ := fe_lI_d h
    obtain ⟨w3, m3, h⟩ := fe_lI_d h
    obtain ⟨w4, m4, h⟩ := fe_lI_d h
    obtain ⟨rfl, hz⟩ := fe_t0_d h
    exact ⟨[(0, .int w0), (1, .int w1), (2, .int w2), (3, .int w3), (4, .int w4)], (fe_cs m0 (fe_cs m1 (fe_cs m2 (fe_cs m3 (fe_cs m4 fe_nl))))), Or.inr ((bX103_ofI_0 FX103_ofI_0 w0 w1 w2 w3 w4 M).symm.trans hz)⟩
  exact fe_mem_0 hc
theorem vX103_ofI : fe_SB (sX103_ofI) := by
  refine ⟨?_, ?_, ?_, ?_⟩
  · intro i As M r h
    exact fe_no h
  · intro i As M r h
    exact fe_no h
  · intro i As M r h
    exact fe_no h
  · intro i As M r h
    exact fe_no h
theorem eX103_ofI (g0 : Int32 → Int32 → Int32 → Int32 → Int32 → FM → Option (Int32 × FM)) (a0 : Int32) (a1 : Int32) (a2 : Int32) (a3 : Int32) (a4 : Int32) (M : FM) : dX103_ofI g0 0 [(0, .int a0), (1, .int a1), (2, .int a2), (3, .int a3), (4, .int a4)] [] M = g0 a0 a1 a2 a3 a4 M := by rfl
theorem mX103_ofI (a0 : Int32) (a1 : Int32) (a2 : Int32) (a3 : Int32) (a4 : Int32) (M : FM) (r : Int32 × FM) (h : FX103_ofI a0 a1 a2 a3 a4 M = some r) : fm_nx M ≤ fm_nx r.2 ∧ fm_ns M ≤ fm_ns r.2 :=
  fe_mono (L0 := [(0, .int a0), (1, .int a1), (2, .int a2), (3, .int a3), (4, .int a4)]) (vX103_ofI) (by decide +kernel) (hX103_ofI) (fe_ki_k r) 0 rfl ((eX103_ofI FX103_ofI_0 a0 a1 a2 a3 a4 M).trans h)
theorem zX103_ofI {s0 : State} {H0 : Heap} {oa : Nat → Nat} {D : va_G} (K : fk s0 H0 oa D) (l : Launch) (a0 : Int32) (a1 : Int32) (a2 : Int32) (a3 : Int32) (a4 : Int32) (M : FM) (r : Int32 × FM) (h : FX103_ofI a0 a1 a2 a3 a4 M = some r) : fs_Con (fk_E s0 H0 oa D) l 1 ⟨"BoardMachine$Halves$Words", "ofI", "(IIIII)I"⟩ prog_56_method_3_code 5 (Option.some Jvm.ClassFile.FieldType.int) [.int a0, .int a1, .int a2, .int a3, .int a4] M (some (.int r.1)) r.2 := by
  refine fs_method (own := "BoardMachine$Halves$Words") rfl (by decide) K.2.1 (by rw [fe_slen]; exact (Nat.le_of_ble_eq_true rfl)) (mX103_ofI a0 a1 a2 a3 a4 M r h) (hX103_ofI) 0 rfl (L0 := [(0, .int a0), (1, .int a1), (2, .int a2), (3, .int a3), (4, .int a4)]) (fun E => fe_args_e E [.int a0, .int a1, .int a2, .int a3, .int a4] 0) ((eX103_ofI FX103_ofI_0 a0 a1 a2 a3 a4 M).trans h) (fe_ki_k r) (fun H hR => fs_nr_o (by decide) (by decide)) ?_
  intro p e s m args below meth c Q C hnm
  have hw : s0.WarmedH s.vm := C.2.2.2.2.1
  refine fe_all C fk_hwr cX103_ofI [] (by decide +kernel) (fe_fil (cps := []) (by decide +kernel) ?_)
  exact fs_c0
theorem hX38_make (n : Nat) : fe_H (sX38_make (FX35_read n) FX36_s FX36_p FX103_ofS FX103_ofI) cX38_make [0, 59] fe_ki [] 35 (fun _ => dX38_make (FX38_make_0 n) (FX38_make_59 n)) := by
  intro j pc L st M r hc h
  rcases fe_mem_c hc with rfl | hc
  · obtain ⟨w0, m0, h⟩ := fe_lR_d h
    obtain ⟨w1, m1, h⟩ := fe_lI_d h
    obtain ⟨rfl, hz⟩ := fe_t0_d h
    exact ⟨[(0, .ref w0), (1, .int w1)], (fe_cs m0 (fe_cs m1 fe_nl)), Or.inr ((bX38_make_0 (FX35_read n) FX36_s FX36_p FX103_ofS FX103_ofI (FX38_make_0 n ) (FX38_make_59 n ) w0 w1 M).symm.trans hz)⟩
  rcases fe_mem_c hc with rfl | hc
  · obtain ⟨s0, t0, rfl, g0⟩ := fe_tI_d h
    obtain ⟨rfl, hz⟩ := fe_t0_d g0
    exact ⟨[], fe_nl, Or.inr ((bX38_make_59 (FX35_read n) FX36_s FX36_p FX103_ofS FX103_ofI (FX38_make_0 n ) (FX38_make_59 n ) s0 M).symm.trans hz)⟩
  exact fe_mem_0 hc
theorem vX38_make (n : Nat) : fe_SB (sX38_make (FX35_read n) FX36_s FX36_p FX103_ofS FX103_ofI) := by
  refine ⟨?_, ?_, ?_, ?_⟩
  · intro i As M r h
    exact fe_no h
  · intro i As M r h
    rcases fe_bc h with h | h
    · obtain ⟨v0, t0, rfl, g0⟩ := fe_tR_d h
      obtain ⟨v1, t1, rfl, g1⟩ := fe_tI_d g0
      obtain ⟨rfl, hz⟩ := fe_t0_d g1
      exact mX35_read n v0 v1 M r hz
    rcases fe_bc h with h | h
    · obtain ⟨v0, t0, rfl, g0⟩ := fe_tI_d h
      obtain ⟨rfl, hz⟩ := fe_t0_d g0
      exact mX36_s v0 M r hz
    rcases fe_bc h with h | h
    · obtain ⟨v0, t0, rfl, g0⟩ := fe_tI_d h
      obtain ⟨rfl, hz⟩ := fe_t0_d g0
      exact mX36_p v0 M r hz
    rcases fe_bc h with h | h
    · obtain ⟨v0, t0, rfl, g0⟩ := fe_tI_d h
      obtain ⟨v1, t1, rfl, g1⟩ := fe_tI_d g0
      obtain ⟨v2, t2, rfl, g2⟩ := fe_tI_d g1
      obtain ⟨v3, t3, rfl, g3⟩ := fe_tI_d g2
      obtain ⟨v4, t4, rfl, g4⟩ := fe_tI_d g3
      obtain ⟨rfl, hz⟩ := fe_t0_d g4
      exact mX103_ofS v0 v1 v2 v3 v4 M r hz
    rcases fe_bc h with h | h
    · obtain ⟨v0, t0, rfl, g0⟩ := fe_tI_d h
      obtain ⟨v1, t1, rfl, g1⟩ := fe_tI_d g0
      obtain ⟨v2, t2, rfl, g2⟩ := fe_tI_d g1
      obtain ⟨v3, t3, rfl, g3⟩ := fe_tI_d g2
      obtain ⟨v4, t4, rfl, g4⟩ := fe_tI_d g3
      obtain ⟨rfl, hz⟩ := fe_t0_d g4
      exact mX103_ofI v0 v1 v2 v3 v4 M r hz
    exact fe_no h
  · intro i As M r h
    exact fe_no h
  · intro i As M r h
    exact fe_no h
theorem eX38_make (g0 : Nat → Int32 → FM → Option (Int32 × FM)) (g59 : Int32 → FM → Option (Int32 × FM)) (a0 : Nat) (a1 : Int32) (M : FM) : dX38_make g0 g59 0 [(0, .ref a0), (1, .int a1)] [] M = g0 a0 a1 M := by rfl
theorem mX38_make (n : Nat) (a0 : Nat) (a1 : Int32) (M : FM) (r : Int32 × FM) (h : FX38_make n a0 a1 M = some r) : fm_nx M ≤ fm_nx r.2 ∧ fm_ns M ≤ fm_ns r.2 :=
  fe_mono (L0 := [(0, .ref a0), (1, .int a1)]) (vX38_make n) (by decide +kernel) (hX38_make n) (fe_ki_k r) 0 rfl ((eX38_make (FX38_make_0 n ) (FX38_make_59 n ) a0 a1 M).trans h)
theorem zX38_make {s0 : State} {H0 : Heap} {oa : Nat → Nat} {D : va_G} (K : fk s0 H0 oa D) (l : Launch) (n : Nat) (a0 : Nat) (a1 : Int32) (M : FM) (r : Int32 × FM) (h : FX38_make n a0 a1 M = some r) : fs_Con (fk_E s0 H0 oa D) l 3 ⟨"BoardMachine$Halves$Access", "make", "(I)I"⟩ prog_44_method_2_code 3 (Option.some Jvm.ClassFile.FieldType.int) [.ref a0, .int a1] M (some (.int r.1)) r.2 := by
  have o0 : fs_OS (sX38_make (FX35_read n) FX36_s FX36_p FX103_ofS FX103_ofI) 0 1 (fs_Con (fk_E s0 H0 oa D) l 2 ⟨"BoardMachine$Halves$Layout", "read", "(I)I"⟩ prog_48_method_2_code 4 (Option.some Jvm.ClassFile.FieldType.int)) := by
    intro As M r h
    obtain ⟨v0, t0, rfl, g0⟩ := fe_tR_d h
    obtain ⟨v1, t1, rfl, g1⟩ := fe_tI_d g0
    obtain ⟨rfl, hz⟩ := fe_t0_d g1
    exact zX35_read K l n v0 v1 M r hz
  have o1 : fs_OS (sX38_make (FX35_read n) FX36_s FX36_p FX103_ofS FX103_ofI) 1 1 (fs_Con (fk_E s0 H0 oa D) l 2 ⟨"BoardMachine$Halves$Line", "s", "(I)I"⟩ prog_49_method_5_code 1 (Option.some Jvm.ClassFile.FieldType.int)) := by
    intro As M r h
    obtain ⟨v0, t0, rfl, g0⟩ := fe_tI_d h
    obtain ⟨rfl, hz⟩ := fe_t0_d g0
    exact zX36_s K l v0 M r hz
  have o2 : fs_OS (sX38_make (FX35_read n) FX36_s FX36_p FX103_ofS FX103_ofI) 2 1 (fs_Con (fk_E s0 H0 oa D) l 2 ⟨"BoardMachine$Halves$Line", "p", "(I)I"⟩ prog_49_method_4_code 1 (Option.some Jvm.ClassFile.FieldType.int)) := by
    intro As M r h
    obtain ⟨v0, t0, rfl, g0⟩ := fe_tI_d h
    obtain ⟨rfl, hz⟩ := fe_t0_d g0
    exact zX36_p K l v0 M r hz
  have o3 : fs_OS (sX38_make (FX35_read n) FX36_s FX36_p FX103_ofS FX103_ofI) 3 1 (fs_Con (fk_E s0 H0 oa D) l 2 ⟨"BoardMachine$Halves$Words", "ofS", "(IIIII)I"⟩ prog_56_method_5_code 5 (Option.some Jvm.ClassFile.FieldType.int)) := by
    intro As M r h
    obtain ⟨v0, t0, rfl, g0⟩ := fe_tI_d h
    obtain ⟨v1, t1, rfl, g1⟩ := fe_tI_d g0
    obtain ⟨v2, t2, rfl, g2⟩ := fe_tI_d g1
    obtain ⟨v3, t3, rfl, g3⟩ := fe_tI_d g2
    obtain ⟨v4, t4, rfl, g4⟩ := fe_tI_d g3
    obtain ⟨rfl, hz⟩ := fe_t0_d g4
    exact zX103_ofS K l v0 v1 v2 v3 v4 M r hz
  have o4 : fs_OS (sX38_make (FX35_read n) FX36_s FX36_p FX103_ofS FX103_ofI) 4 1 (fs_Con (fk_E s0 H0 oa D) l 1 ⟨"BoardMachine$Halves$Words", "ofI", "(IIIII)I"⟩ prog_56_method_3_code 5 (Option.some Jvm.ClassFile.FieldType.int)) := by
    intro As M r h
    obtain ⟨v0, t0, rfl, g0⟩ := fe_tI_d h
    obtain ⟨v1, t1, rfl, g1⟩ := fe_tI_d g0
    obtain ⟨v2, t2, rfl, g2⟩ := fe_tI_d g1
    obtain ⟨v3, t3, rfl, g3⟩ := fe_tI_d g2
    obtain ⟨v4, t4, rfl, g4⟩ := fe_tI_d g3
    obtain ⟨rfl, hz⟩ := fe_t0_d g4
    exact zX103_ofI K l v0 v1 v2 v3 v4 M r hz
  refine fs_method (own := "BoardMachine$Halves$Access") rfl (by decide) K.2.1 (by rw [fe_slen]; exact (Nat.le_of_ble_eq_true rfl)) (mX38_make n a0 a1 M r h) (hX38_make n) 0 rfl (L0 := [(0, .ref a0), (1, .int a1)]) (fun E => fe_args_e E [.ref a0, .int a1] 0) ((eX38_make (FX38_make_0 n ) (FX38_make_59 n ) a0 a1 M).trans h) (fe_ki_k r) (fun H hR => fs_nr_o (by decide) (by decide)) ?_
  intro p e s m args below meth c Q C hnm
  have hw : s0.WarmedH s.vm := C.2.2.2.2.1
  refine fe_all C fk_hwr cX38_make [1, 5, 10, 17, 21, 25, 29, 33, 40, 44, 48, 52, 56] (by decide +kernel) (fe_fil (cps := [(1, 4, .getfield 541241518), (5, 8, .invokevirtual 9480234), (10, 13, .getfield 553824431), (17, 20, .getfield 545435820), (21, 24, .getfield 549630124), (25, 28, .invokestatic 133), (29, 32, .invokestatic 69), (33, 36, .invokestatic 213), (40, 43, .getfield 545435820), (44, 47, .invokestatic 69), (48, 51, .getfield 549630124), (52, 55, .invokestatic 133), (56, 59, .invokestatic 277)]) (by decide +kernel) ?_)
  refine fs_c1 (fs_getf (pc := 1) (n := 541241518) (idx := 20) (ref := "BoardMachine$Halves$Access") (O := "BoardMachine$Halves$Line") (name := "layout") (desc := "LBoardMachine$Halves$Layout;") C (by decide +kernel) (Or.inl (kw K hw q1106)) (fs_sameF (kw (args := args) K hw q1107)) (Nat.le_of_ble_eq_true rfl) (Nat.le_of_ble_eq_true rfl) (fs_one (⟨_, ff_43_129 s0 H0 oa D⟩))) ?_
  refine fs_c1 (fs_inv_virtual (pc := 5) (n := 9480234) C (Nat.le_of_ble_eq_true rfl) (Nat.le_of_ble_eq_true rfl) (fs_lk_virtual (idx := 24) (y := ⟨"BoardMachine$Halves$Layout", "read", "(I)I"⟩) (bytes := prog_48_method_2_code) (maxL := 4) (rt := (Option.some Jvm.ClassFile.FieldType.int)) (d := 2) C (Nat.le_of_ble_eq_true rfl) (Nat.le_of_ble_eq_true rfl) (by decide +kernel) (kw K hw q3114) (kw K hw q346) (kw K hw q3112) (Or.inl (kw K hw q3111)) ⟨by decide, by decide⟩ rfl (Nat.le_of_ble_eq_true rfl) (Nat.le_of_ble_eq_true rfl) (fs_one (⟨_, rfl, kw K hw q3113⟩))) fs_con_mono o0) ?_
  refine fs_c1 (fs_getf (pc := 10) (n := 553824431) (idx := 16) (ref := "BoardMachine$Halves$Access") (O := "BoardMachine$Halves$Access") (name := "stores") (desc := "Z") C (by decide +kernel) (Or.inl (kw K hw q1141)) (fun _ h => h) (Nat.le_of_ble_eq_true rfl) (Nat.le_of_ble_eq_true rfl) (fs_one (⟨_, ff_43_132 s0 H0 oa D⟩))) ?_
  refine fs_c1 (fs_getf (pc := 17) (n := 545435820) (idx := 7) (ref := "BoardMachine$Halves$Access") (O := "BoardMachine$Halves$Access") (name := "code") (desc := "I") C (by decide +kernel) (Or.inl (kw K hw q1139)) (fun _ h => h) (Nat.le_of_ble_eq_true rfl) (Nat.le_of_ble_eq_true rfl) (fs_one (⟨_, ff_43_130 s0 H0 oa D⟩))) ?_
  refine fs_c1 (fs_getf (pc := 21) (n := 549630124) (idx := 13) (ref := "BoardMachine$Halves$Access") (O := "BoardMachine$Halves$Access") (name := "f") (desc := "I") C (by decide +kernel) (Or.inl (kw K hw q1140)) (fun _ h => h) (Nat.le_of_ble_eq_true rfl) (Nat.le_of_ble_eq_true rfl) (fs_one (⟨_, ff_43_131 s0 H0 oa D⟩))) ?_
  refine fs_c1 (fs_inv_static (pc := 25) (n := 133) C (fs_lk_staticU (idx := 30) (x := ⟨"BoardMachine$Halves$Access", "p", "(I)I"⟩) (owner := "BoardMachine$Halves$Line") (bytes := prog_49_method_4_code) (maxL := 1) (rt := (Option.some Jvm.ClassFile.FieldType.int)) (d := 2) C (by decide +kernel) (kw K hw q3121) (kw K hw q347) (kw K hw q3120) (kw K hw q3118) (kw K hw q3119) ⟨by decide, by decide⟩ rfl (Nat.le_of_ble_eq_true rfl) (Nat.le_of_ble_eq_true rfl)) fs_con_mono o2) ?_
  refine fs_c1 (fs_inv_static (pc := 29) (n := 69) C (fs_lk_staticU (idx := 33) (x := ⟨"BoardMachine$Halves$Access", "s", "(I)I"⟩) (owner := "BoardMachine$Halves$Line") (bytes := prog_49_method_5_code) (maxL := 1) (rt := (Option.some Jvm.ClassFile.FieldType.int)) (d := 2) C (by decide +kernel) (kw K hw q3126) (kw K hw q347) (kw K hw q3125) (kw K hw q3123) (kw K hw q3124) ⟨by decide, by decide⟩ rfl (Nat.le_of_ble_eq_true rfl) (Nat.le_of_ble_eq_true rfl)) fs_con_mono o1) ?_
  refine fs_c1 (fs_inv_static (pc := 33) (n := 213) C (fs_lk_static (idx := 36) (y := ⟨"BoardMachine$Halves$Words", "ofS", "(IIIII)I"⟩) (bytes := prog_56_method_5_code) (maxL := 5) (rt := (Option.some Jvm.ClassFile.FieldType.int)) (d := 2) C (by decide +kernel) (kw K hw q3129) (kw K hw q428) (kw K hw q3128) (Or.inl (kw K hw q3127)) ⟨by decide, by decide⟩ rfl (Nat.le_of_ble_eq_true rfl) (Nat.le_of_ble_eq_true rfl)) fs_con_mono o3) ?_
  refine fs_c1 (fs_getf (pc := 40) (n := 545435820) (idx := 7) (ref := "BoardMachine$Halves$Access") (O := "BoardMachine$Halves$Access") (name := "code") (desc := "I") C (by decide +kernel) (Or.inl (kw K hw q1139)) (fun _ h => h) (Nat.le_of_ble_eq_true rfl) (Nat.le_of_ble_eq_true rfl) (fs_one (⟨_, ff_43_130 s0 H0 oa D⟩))) ?_
  refine fs_c1 (fs_inv_static (pc := 44) (n := 69) C (fs_lk_staticU (idx := 33) (x := ⟨"BoardMachine$Halves$Access", "s", "(I)I"⟩) (owner := "BoardMachine$Halves$Line") (bytes := prog_49_method_5_code) (maxL := 1) (rt := (Option.some Jvm.ClassFile.FieldType.int)) (d := 2) C (by decide +kernel) (kw K hw q3126) (kw K hw q347) (kw K hw q3125) (kw K hw q3123) (kw K hw q3124) ⟨by decide, by decide⟩ rfl (Nat.le_of_ble_eq_true rfl) (Nat.le_of_ble_eq_true rfl)) fs_con_mono o1) ?_
  refine fs_c1 (fs_getf (pc := 48) (n := 549630124) (idx := 13) (ref := "BoardMachine$Halves$Access") (O := "BoardMachine$Halves$Access") (name := "f") (desc := "I") C (by decide +kernel) (Or.inl (kw K hw q1140)) (fun _ h => h) (Nat.le_of_ble_eq_true rfl) (Nat.le_of_ble_eq_true rfl) (fs_one (⟨_, ff_43_131 s0 H0 oa D⟩))) ?_
  refine fs_c1 (fs_inv_static (pc := 52) (n := 133) C (fs_lk_staticU (idx := 30) (x := ⟨"BoardMachine$Halves$Access", "p", "(I)I"⟩) (owner := "BoardMachine$Halves$Line") (bytes := prog_49_method_4_code) (maxL := 1) (rt := (Option.some Jvm.ClassFile.FieldType.int)) (d := 2) C (by decide +kernel) (kw K hw q3121) (kw K hw q347) (kw K hw q3120) (kw K hw q3118) (kw K hw q3119) ⟨by decide, by decide⟩ rfl (Nat.le_of_ble_eq_true rfl) (Nat.le_of_ble_eq_true rfl)) fs_con_mono o2) ?_
  refine fs_c1 (fs_inv_static (pc := 56) (n := 277) C (fs_lk_static (idx := 42) (y := ⟨"BoardMachine$Halves$Words", "ofI", "(IIIII)I"⟩) (bytes := prog_56_method_3_code) (maxL := 5) (rt := (Option.some Jvm.ClassFile.FieldType.int)) (d := 1) C (by decide +kernel) (kw K hw q3133) (kw K hw q428) (kw K hw q3132) (Or.inl (kw K hw q3131)) ⟨by decide, by decide⟩ rfl (Nat.le_of_ble_eq_true rfl) (Nat.le_of_ble_eq_true rfl)) fs_con_mono o4) ?_
  exact fs_c0
theorem hX103_ofB : fe_H (sX103_ofB FX103_bits) cX103_ofB [0] fe_ki [] 47 (fun _ => dX103_ofB FX103_ofB_0) := by
  intro j pc L st M r hc h
  rcases fe_mem_c hc with rfl | hc
  · obtain ⟨w0, m0, h⟩ := fe_lI_d h
    obtain ⟨w1, m1, h⟩ := fe_lI_d h
    obtain ⟨w2, m2, h⟩ := fe_lI_d h
    obtain ⟨w3, m3, h⟩ := fe_lI_d h
    obtain ⟨rfl, hz⟩ := fe_t0_d h
    exact ⟨[(0, .int w0), (1, .int w1), (2, .int w2), (3, .int w3)], (fe_cs m0 (fe_cs m1 (fe_cs m2 (fe_cs m3 fe_nl)))), Or.inr ((bX103_ofB_0 FX103_bits FX103_ofB_0 w0 w1 w2 w3 M).symm.trans hz)⟩
  exact fe_mem_0 hc
theorem vX103_ofB : fe_SB (sX103_ofB FX103_bits) := by
  refine ⟨?_, ?_, ?_, ?_⟩
  · intro i As M r h
    exact fe_no h
  · intro i As M r h
    rcases fe_bc h with h | h
    · obtain ⟨v0, t0, rfl, g0⟩ := fe_tI_d h
      obtain ⟨v1, t1, rfl, g1⟩ := fe_tI_d g0
      obtain ⟨v2, t2, rfl, g2⟩ := fe_tI_d g1
      obtain ⟨rfl, hz⟩ := fe_t0_d g2
      exact mX103_bits v0 v1 v2 M r hz
    exact fe_no h
  · intro i As M r h
    exact fe_no h
  · intro i As M r h
    exact fe_no h
theorem eX103_ofB (g0 : Int32 → Int32 → Int32 → Int32 → FM → Option (Int32 × FM)) (a0 : Int32) (a1 : Int32) (a2 : Int32) (a3 : Int32) (M : FM) : dX103_ofB g0 0 [(0, .int a0), (1, .int a1), (2, .int a2), (3, .int a3)] [] M = g0 a0 a1 a2 a3 M := by rfl
theorem mX103_ofB (a0 : Int32) (a1 : Int32) (a2 : Int32) (a3 : Int32) (M : FM) (r : Int32 × FM) (h : FX103_ofB a0 a1 a2 a3 M = some r) : fm_nx M ≤ fm_nx r.2 ∧ fm_ns M ≤ fm_ns r.2 :=
  fe_mono (L0 := [(0, .int a0), (1, .int a1), (2, .int a2), (3, .int a3)]) (vX103_ofB) (by decide +kernel) (hX103_ofB) (fe_ki_k r) 0 rfl ((eX103_ofB FX103_ofB_0 a0 a1 a2 a3 M).trans h)
theorem zX103_ofB {s0 : State} {H0 : Heap} {oa : Nat → Nat} {D : va_G} (K : fk s0 H0 oa D) (l : Launch) (a0 : Int32) (a1 : Int32) (a2 : Int32) (a3 : Int32) (M : FM) (r : Int32 × FM) (h : FX103_ofB a0 a1 a2 a3 M = some r) : fs_Con (fk_E s0 H0 oa D) l 2 ⟨"BoardMachine$Halves$Words", "ofB", "(IIII)I"⟩ prog_56_method_7_code 4 (Option.some Jvm.ClassFile.FieldType.int) [.int a0, .int a1, .int a2, .int a3] M (some (.int r.1)) r.2 := by
  have o0 : fs_OS (sX103_ofB FX103_bits) 0 1 (fs_Con (fk_E s0 H0 oa D) l 1 ⟨"BoardMachine$Halves$Words", "bits", "(III)I"⟩ prog_56_method_2_code 3 (Option.some Jvm.ClassFile.FieldType.int)) := by
    intro As M r h
    obtain ⟨v0, t0, rfl, g0⟩ := fe_tI_d h
    obtain ⟨v1, t1, rfl, g1⟩ := fe_tI_d g0
    obtain ⟨v2, t2, rfl, g2⟩ := fe_tI_d g1
    obtain ⟨rfl, hz⟩ := fe_t0_d g2
    exact zX103_bits K l v0 v1 v2 M r hz
  refine fs_method (own := "BoardMachine$Halves$Words") rfl (by decide) K.2.1 (by rw [fe_slen]; exact (Nat.le_of_ble_eq_true rfl)) (mX103_ofB a0 a1 a2 a3 M r h) (hX103_ofB) 0 rfl (L0 := [(0, .int a0), (1, .int a1), (2, .int a2), (3, .int a3)]) (fun E => fe_args_e E [.int a0, .int a1, .int a2, .int a3] 0) ((eX103_ofB FX103_ofB_0 a0 a1 a2 a3 M).trans h) (fe_ki_k r) (fun H hR => fs_nr_o (by decide) (by decide)) ?_
  intro p e s m args below meth c Q C hnm
  have hw : s0.WarmedH s.vm := C.2.2.2.2.1
  refine fe_all C fk_hwr cX103_ofB [7, 17, 43, 55] (by decide +kernel) (fe_fil (cps := [(7, 10, .invokestatic 13), (17, 20, .invokestatic 13), (43, 46, .invokestatic 13), (55, 58, .invokestatic 13)]) (by decide +kernel) ?_)
  refine fs_c1 (fs_inv_static (pc := 7) (n := 13) C (fs_lk_static (idx := 7) (y := ⟨"BoardMachine$Halves$Words", "bits", "(III)I"⟩) (bytes := prog_56_method_2_code) (maxL := 3) (rt := (Option.some Jvm.ClassFile.FieldType.int)) (d := 1) C (by decide +kernel) (kw K hw q3117) (kw K hw q428) (kw K hw q3116) (Or.inl (kw K hw q3130)) ⟨by decide, by decide⟩ rfl (Nat.le_of_ble_eq_true rfl) (Nat.le_of_ble_eq_true rfl)) fs_con_mono o0) ?_
  refine fs_c1 (fs_inv_static (pc := 17) (n := 13) C (fs_lk_static (idx := 7) (y := ⟨"BoardMachine$Halves$Words", "bits", "(III)I"⟩) (bytes := prog_56_method_2_code) (maxL := 3) (rt := (Option.some Jvm.ClassFile.FieldType.int)) (d := 1) C (by decide +kernel) (kw K hw q3117) (kw K hw q428) (kw K hw q3116) (Or.inl (kw K hw q3130)) ⟨by decide, by decide⟩ rfl (Nat.le_of_ble_eq_true rfl) (Nat.le_of_ble_eq_true rfl)) fs_con_mono o0) ?_
  refine fs_c1 (fs_inv_static (pc := 43) (n := 13) C (fs_lk_static (idx := 7) (y := ⟨"BoardMachine$Halves$Words", "bits", "(III)I"⟩) (bytes := prog_56_method_2_code) (maxL := 3) (rt := (Option.some Jvm.ClassFile.FieldType.int)) (d := 1) C (by decide +kernel) (kw K hw q3117) (kw K hw q428) (kw K hw q3116) (Or.inl (kw K hw q3130)) ⟨by decide, by decide⟩ rfl (Nat.le_of_ble_eq_true rfl) (Nat.le_of_ble_eq_true rfl)) fs_con_mono o0) ?_
  refine fs_c1 (fs_inv_static (pc := 55) (n := 13) C (fs_lk_static (idx := 7) (y := ⟨"BoardMachine$Halves$Words", "bits", "(III)I"⟩) (bytes := prog_56_method_2_code) (maxL := 3) (rt := (Option.some Jvm.ClassFile.FieldType.int)) (d := 1) C (by decide +kernel) (kw K hw q3117) (kw K hw q428) (kw K hw q3116) (Or.inl (kw K hw q3130)) ⟨by decide, by decide⟩ rfl (Nat.le_of_ble_eq_true rfl) (Nat.le_of_ble_eq_true rfl)) fs_con_mono o0) ?_
  exact fs_c0
