/-! contracts of methods, printed by gen/snd.py -/
set_option maxRecDepth 100000
set_option maxHeartbeats 4000000
theorem hX33_best (n : Nat) : fe_H (sX33_best) cX33_best [0, 8, 49] fe_ki [8] 38 (fun j => dX33_best (FX33_best_0 n (FX33_best_L8 n j)) (FX33_best_49 n (FX33_best_L8 n j)) (FX33_best_L8 n j)) := by
  intro j pc L st M r hc h
  rcases fe_mem_c hc with rfl | hc
  · obtain ⟨w0, m0, h⟩ := fe_lR_d h
    obtain ⟨w1, m1, h⟩ := fe_lI_d h
    obtain ⟨w2, m2, h⟩ := fe_lI_d h
    obtain ⟨rfl, hz⟩ := fe_t0_d h
    exact ⟨[(0, .ref w0), (1, .int w1), (2, .int w2)], (fe_cs m0 (fe_cs m1 (fe_cs m2 fe_nl))), Or.inr ((bX33_best_0 (FX33_best_0 n (FX33_best_L8 n j)) (FX33_best_49 n (FX33_best_L8 n j)) (FX33_best_L8 n j) w0 w1 w2 M).symm.trans hz)⟩
  rcases fe_mem_c hc with rfl | hc
  · obtain ⟨w0, m0, h⟩ := fe_lR_d h
    obtain ⟨w1, m1, h⟩ := fe_lI_d h
    obtain ⟨w3, m3, h⟩ := fe_lI_d h
    obtain ⟨w4, m4, h⟩ := fe_lI_d h
    obtain ⟨w5, m5, h⟩ := fe_lI_d h
    obtain ⟨rfl, hz⟩ := fe_t0_d h
    cases j with
    | zero => exact fe_no hz
    | succ j => exact ⟨[(0, .ref w0), (1, .int w1), (3, .int w3), (4, .int w4), (5, .int w5)], (fe_cs m0 (fe_cs m1 (fe_cs m3 (fe_cs m4 (fe_cs m5 fe_nl))))), Or.inl ⟨j, rfl, (bX33_best_8 (FX33_best_0 n (FX33_best_L8 n j)) (FX33_best_49 n (FX33_best_L8 n j)) (FX33_best_L8 n j) w0 w1 w3 w4 w5 M).symm.trans hz⟩⟩
  rcases fe_mem_c hc with rfl | hc
  · obtain ⟨w0, m0, h⟩ := fe_lR_d h
    obtain ⟨w1, m1, h⟩ := fe_lI_d h
    obtain ⟨w3, m3, h⟩ := fe_lI_d h
    obtain ⟨w4, m4, h⟩ := fe_lI_d h
    obtain ⟨w5, m5, h⟩ := fe_lI_d h
    obtain ⟨rfl, hz⟩ := fe_t0_d h
    exact ⟨[(0, .ref w0), (1, .int w1), (3, .int w3), (4, .int w4), (5, .int w5)], (fe_cs m0 (fe_cs m1 (fe_cs m3 (fe_cs m4 (fe_cs m5 fe_nl))))), Or.inr ((bX33_best_49 (FX33_best_0 n (FX33_best_L8 n j)) (FX33_best_49 n (FX33_best_L8 n j)) (FX33_best_L8 n j) w0 w1 w3 w4 w5 M).symm.trans hz)⟩
  exact fe_mem_0 hc
theorem vX33_best (n : Nat) : fe_SB (sX33_best) := by
  refine ⟨?_, ?_, ?_, ?_⟩
  · intro i As M r h
    exact fe_no h
  · intro i As M r h
    exact fe_no h
  · intro i As M r h
    exact fe_no h
  · intro i As M r h
    exact fe_no h
theorem eX33_best (g0 : Nat → Int32 → Int32 → FM → Option (Int32 × FM)) (g49 : Nat → Int32 → Int32 → Int32 → Int32 → FM → Option (Int32 × FM)) (k8 : Nat → Int32 → Int32 → Int32 → Int32 → FM → Option (Int32 × FM)) (a0 : Nat) (a1 : Int32) (a2 : Int32) (M : FM) : dX33_best g0 g49 k8 0 [(0, .ref a0), (1, .int a1), (2, .int a2)] [] M = g0 a0 a1 a2 M := by rfl
theorem mX33_best (n : Nat) (a0 : Nat) (a1 : Int32) (a2 : Int32) (M : FM) (r : Int32 × FM) (h : FX33_best n a0 a1 a2 M = some r) : fm_nx M ≤ fm_nx r.2 ∧ fm_ns M ≤ fm_ns r.2 :=
  fe_mono (L0 := [(0, .ref a0), (1, .int a1), (2, .int a2)]) (vX33_best n) (by decide +kernel) (hX33_best n) (fe_ki_k r) n rfl ((eX33_best (FX33_best_0 n (FX33_best_L8 n n)) (FX33_best_49 n (FX33_best_L8 n n)) (FX33_best_L8 n n) a0 a1 a2 M).trans h)
theorem zX33_best {s0 : State} {H0 : Heap} {oa : Nat → Nat} {D : va_G} (K : fk s0 H0 oa D) (l : Launch) (n : Nat) (a0 : Nat) (a1 : Int32) (a2 : Int32) (M : FM) (r : Int32 × FM) (h : FX33_best n a0 a1 a2 M = some r) : fs_Con (fk_E s0 H0 oa D) l 1 ⟨"BoardMachine$Signals$Controller", "best", "(II)I"⟩ prog_89_method_4_code 6 (Option.some Jvm.ClassFile.FieldType.int) [.ref a0, .int a1, .int a2] M (some (.int r.1)) r.2 := by
  refine fs_method (own := "BoardMachine$Signals$Controller") rfl (by decide) K.2.1 (by rw [fe_slen]; exact (Nat.le_of_ble_eq_true rfl)) (mX33_best n a0 a1 a2 M r h) (hX33_best n) n rfl (L0 := [(0, .ref a0), (1, .int a1), (2, .int a2)]) (fun E => fe_args_e E [.ref a0, .int a1, .int a2] 0) ((eX33_best (FX33_best_0 n (FX33_best_L8 n n)) (FX33_best_49 n (FX33_best_L8 n n)) (FX33_best_L8 n n) a0 a1 a2 M).trans h) (fe_ki_k r) (fun H hR => fs_nr_o (by decide) (by decide)) ?_
  intro p e s m args below meth c Q C hnm
  have hw : s0.WarmedH s.vm := C.2.2.2.2.1
  refine fe_all C fk_hwr cX33_best [26, 38] (by decide +kernel) (fe_fil (cps := [(26, 29, .getfield 939839798), (38, 41, .getfield 939839798)]) (by decide +kernel) ?_)
  refine fs_c1 (fs_getf (pc := 26) (n := 939839798) (idx := 9) (ref := "BoardMachine$Signals$Controller") (O := "BoardMachine$Signals$Controller") (name := "priorities") (desc := "[I") C (by decide +kernel) (Or.inl (kw K hw q995)) (fun _ h => h) (Nat.le_of_ble_eq_true rfl) (Nat.le_of_ble_eq_true rfl) (fs_one (⟨_, ff_77_224 s0 H0 oa D⟩))) ?_
  refine fs_c1 (fs_getf (pc := 38) (n := 939839798) (idx := 9) (ref := "BoardMachine$Signals$Controller") (O := "BoardMachine$Signals$Controller") (name := "priorities") (desc := "[I") C (by decide +kernel) (Or.inl (kw K hw q995)) (fun _ h => h) (Nat.le_of_ble_eq_true rfl) (Nat.le_of_ble_eq_true rfl) (fs_one (⟨_, ff_77_224 s0 H0 oa D⟩))) ?_
  exact fs_c0
theorem hX33_isOn (n : Nat) : fe_H (sX33_isOn (FX33_best n)) cX33_isOn [0, 29] fe_ki [] 23 (fun _ => dX33_isOn (FX33_isOn_0 n) (FX33_isOn_29 n)) := by
  intro j pc L st M r hc h
  rcases fe_mem_c hc with rfl | hc
  · obtain ⟨w0, m0, h⟩ := fe_lR_d h
    obtain ⟨w1, m1, h⟩ := fe_lI_d h
    obtain ⟨rfl, hz⟩ := fe_t0_d h
    exact ⟨[(0, .ref w0), (1, .int w1)], (fe_cs m0 (fe_cs m1 fe_nl)), Or.inr ((bX33_isOn_0 (FX33_best n) (FX33_isOn_0 n ) (FX33_isOn_29 n ) w0 w1 M).symm.trans hz)⟩
  rcases fe_mem_c hc with rfl | hc
  · obtain ⟨s0, t0, rfl, g0⟩ := fe_tI_d h
    obtain ⟨rfl, hz⟩ := fe_t0_d g0
    exact ⟨[], fe_nl, Or.inr ((bX33_isOn_29 (FX33_best n) (FX33_isOn_0 n ) (FX33_isOn_29 n ) s0 M).symm.trans hz)⟩
  exact fe_mem_0 hc
theorem vX33_isOn (n : Nat) : fe_SB (sX33_isOn (FX33_best n)) := by
  refine ⟨?_, ?_, ?_, ?_⟩
  · intro i As M r h
    exact fe_no h
  · intro i As M r h
    rcases fe_bc h with h | h
    · obtain ⟨v0, t0, rfl, g0⟩ := fe_tR_d h
      obtain ⟨v1, t1, rfl, g1⟩ := fe_tI_d g0
      obtain ⟨v2, t2, rfl, g2⟩ := fe_tI_d g1
      obtain ⟨rfl, hz⟩ := fe_t0_d g2
      exact mX33_best n v0 v1 v2 M r hz
    exact fe_no h
  · intro i As M r h
    exact fe_no h
  · intro i As M r h
    exact fe_no h
theorem eX33_isOn (g0 : Nat → Int32 → FM → Option (Int32 × FM)) (g29 : Int32 → FM → Option (Int32 × FM)) (a0 : Nat) (a1 : Int32) (M : FM) : dX33_isOn g0 g29 0 [(0, .ref a0), (1, .int a1)] [] M = g0 a0 a1 M := by rfl
theorem mX33_isOn (n : Nat) (a0 : Nat) (a1 : Int32) (M : FM) (r : Int32 × FM) (h : FX33_isOn n a0 a1 M = some r) : fm_nx M ≤ fm_nx r.2 ∧ fm_ns M ≤ fm_ns r.2 :=
  fe_mono (L0 := [(0, .ref a0), (1, .int a1)]) (vX33_isOn n) (by decide +kernel) (hX33_isOn n) (fe_ki_k r) 0 rfl ((eX33_isOn (FX33_isOn_0 n ) (FX33_isOn_29 n ) a0 a1 M).trans h)
theorem zX33_isOn {s0 : State} {H0 : Heap} {oa : Nat → Nat} {D : va_G} (K : fk s0 H0 oa D) (l : Launch) (n : Nat) (a0 : Nat) (a1 : Int32) (M : FM) (r : Int32 × FM) (h : FX33_isOn n a0 a1 M = some r) : fs_Con (fk_E s0 H0 oa D) l 2 ⟨"BoardMachine$Signals$Controller", "isOn", "(I)Z"⟩ prog_89_method_10_code 2 (Option.some Jvm.ClassFile.FieldType.boolean) [.ref a0, .int a1] M (some (.int r.1)) r.2 := by
  have o0 : fs_OS (sX33_isOn (FX33_best n)) 0 1 (fs_Con (fk_E s0 H0 oa D) l 1 ⟨"BoardMachine$Signals$Controller", "best", "(II)I"⟩ prog_89_method_4_code 6 (Option.some Jvm.ClassFile.FieldType.int)) := by
    intro As M r h
    obtain ⟨v0, t0, rfl, g0⟩ := fe_tR_d h
    obtain ⟨v1, t1, rfl, g1⟩ := fe_tI_d g0
    obtain ⟨v2, t2, rfl, g2⟩ := fe_tI_d g1
    obtain ⟨rfl, hz⟩ := fe_t0_d g2
    exact zX33_best K l n v0 v1 v2 M r hz
  refine fs_method (own := "BoardMachine$Signals$Controller") rfl (by decide) K.2.1 (by rw [fe_slen]; exact (Nat.le_of_ble_eq_true rfl)) (mX33_isOn n a0 a1 M r h) (hX33_isOn n) 0 rfl (L0 := [(0, .ref a0), (1, .int a1)]) (fun E => fe_args_e E [.ref a0, .int a1] 0) ((eX33_isOn (FX33_isOn_0 n ) (FX33_isOn_29 n ) a0 a1 M).trans h) (fe_ki_k r) (fun H hR => fs_nr_o (by decide) (by decide)) ?_
  intro p e s m args below meth c Q C hnm
  have hw : s0.WarmedH s.vm := C.2.2.2.2.1
  refine fe_all C fk_hwr cX33_isOn [2, 6, 13, 18] (by decide +kernel) (fe_fil (cps := [(2, 5, .getfield 956617012), (6, 9, .getfield 944034102), (13, 16, .getfield 948228406), (18, 21, .invokevirtual 13710413)]) (by decide +kernel) ?_)
  refine fs_c1 (fs_getf (pc := 2) (n := 956617012) (idx := 25) (ref := "BoardMachine$Signals$Controller") (O := "BoardMachine$Signals$Controller") (name := "waiting") (desc := "I") C (by decide +kernel) (Or.inl (kw K hw q999)) (fun _ h => h) (Nat.le_of_ble_eq_true rfl) (Nat.le_of_ble_eq_true rfl) (fs_one (⟨_, ff_77_228 s0 H0 oa D⟩))) ?_
  refine fs_c1 (fs_getf (pc := 6) (n := 944034102) (idx := 15) (ref := "BoardMachine$Signals$Controller") (O := "BoardMachine$Signals$Controller") (name := "enables") (desc := "[I") C (by decide +kernel) (Or.inl (kw K hw q996)) (fun _ h => h) (Nat.le_of_ble_eq_true rfl) (Nat.le_of_ble_eq_true rfl) (fs_one (⟨_, ff_77_225 s0 H0 oa D⟩))) ?_
  refine fs_c1 (fs_getf (pc := 13) (n := 948228406) (idx := 18) (ref := "BoardMachine$Signals$Controller") (O := "BoardMachine$Signals$Controller") (name := "thresholds") (desc := "[I") C (by decide +kernel) (Or.inl (kw K hw q997)) (fun _ h => h) (Nat.le_of_ble_eq_true rfl) (Nat.le_of_ble_eq_true rfl) (fs_one (⟨_, ff_77_226 s0 H0 oa D⟩))) ?_
  refine fs_c1 (fs_inv_virtual (pc := 18) (n := 13710413) C (Nat.le_of_ble_eq_true rfl) (Nat.le_of_ble_eq_true rfl) (fs_lk_virtual (idx := 37) (y := ⟨"BoardMachine$Signals$Controller", "best", "(II)I"⟩) (bytes := prog_89_method_4_code) (maxL := 6) (rt := (Option.some Jvm.ClassFile.FieldType.int)) (d := 1) C (Nat.le_of_ble_eq_true rfl) (Nat.le_of_ble_eq_true rfl) (by decide +kernel) (kw K hw q2880) (kw K hw q344) (kw K hw q2879) (Or.inl (kw K hw q2877)) ⟨by decide, by decide⟩ rfl (Nat.le_of_ble_eq_true rfl) (Nat.le_of_ble_eq_true rfl) (fs_one (⟨_, rfl, kw K hw qs36⟩))) fs_con_mono o0) ?_
  exact fs_c0
theorem hX30_line (n : Nat) : fe_H (sX30_line FX32_isDue (FX33_isOn n)) cX30_line [0, 54] fe_ki [] 39 (fun _ => dX30_line (FX30_line_0 n) (FX30_line_54 n)) := by
  intro j pc L st M r hc h
  rcases fe_mem_c hc with rfl | hc
  · obtain ⟨w0, m0, h⟩ := fe_lR_d h
    obtain ⟨w1, m1, h⟩ := fe_lI_d h
    obtain ⟨w2, m2, h⟩ := fe_lI_d h
    obtain ⟨rfl, hz⟩ := fe_t0_d h
    exact ⟨[(0, .ref w0), (1, .int w1), (2, .int w2)], (fe_cs m0 (fe_cs m1 (fe_cs m2 fe_nl))), Or.inr ((bX30_line_0 FX32_isDue (FX33_isOn n) (FX30_line_0 n ) (FX30_line_54 n ) w0 w1 w2 M).symm.trans hz)⟩
  rcases fe_mem_c hc with rfl | hc
  · obtain ⟨s0, t0, rfl, g0⟩ := fe_tI_d h
    obtain ⟨rfl, hz⟩ := fe_t0_d g0
    exact ⟨[], fe_nl, Or.inr ((bX30_line_54 FX32_isDue (FX33_isOn n) (FX30_line_0 n ) (FX30_line_54 n ) s0 M).symm.trans hz)⟩
  exact fe_mem_0 hc
theorem vX30_line (n : Nat) : fe_SB (sX30_line FX32_isDue (FX33_isOn n)) := by
  refine ⟨?_, ?_, ?_, ?_⟩
  · intro i As M r h
    exact fe_no h
  · intro i As M r h
    rcases fe_bc h with h | h
    · obtain ⟨v0, t0, rfl, g0⟩ := fe_tR_d h
      obtain ⟨v1, t1, rfl, g1⟩ := fe_tI_d g0
      obtain ⟨rfl, hz⟩ := fe_t0_d g1
      exact mX32_isDue v0 v1 M r hz
    rcases fe_bc h with h | h
    · obtain ⟨v0, t0, rfl, g0⟩ := fe_tR_d h
      obtain ⟨v1, t1, rfl, g1⟩ := fe_tI_d g0
      obtain ⟨rfl, hz⟩ := fe_t0_d g1
      exact mX33_isOn n v0 v1 M r hz
    exact fe_no h
  · intro i As M r h
    exact fe_no h
  · intro i As M r h
    exact fe_no h
theorem eX30_line (g0 : Nat → Int32 → Int32 → FM → Option (Int32 × FM)) (g54 : Int32 → FM → Option (Int32 × FM)) (a0 : Nat) (a1 : Int32) (a2 : Int32) (M : FM) : dX30_line g0 g54 0 [(0, .ref a0), (1, .int a1), (2, .int a2)] [] M = g0 a0 a1 a2 M := by rfl
theorem mX30_line (n : Nat) (a0 : Nat) (a1 : Int32) (a2 : Int32) (M : FM) (r : Int32 × FM) (h : FX30_line n a0 a1 a2 M = some r) : fm_nx M ≤ fm_nx r.2 ∧ fm_ns M ≤ fm_ns r.2 :=
  fe_mono (L0 := [(0, .ref a0), (1, .int a1), (2, .int a2)]) (vX30_line n) (by decide +kernel) (hX30_line n) (fe_ki_k r) 0 rfl ((eX30_line (FX30_line_0 n ) (FX30_line_54 n ) a0 a1 a2 M).trans h)
theorem zX30_line {s0 : State} {H0 : Heap} {oa : Nat → Nat} {D : va_G} (K : fk s0 H0 oa D) (l : Launch) (n : Nat) (a0 : Nat) (a1 : Int32) (a2 : Int32) (M : FM) (r : Int32 × FM) (h : FX30_line n a0 a1 a2 M = some r) : fs_Con (fk_E s0 H0 oa D) l 3 ⟨"BoardMachine$Signals$SignalUnit", "line", "(II)Z"⟩ prog_92_method_6_code 3 (Option.some Jvm.ClassFile.FieldType.boolean) [.ref a0, .int a1, .int a2] M (some (.int r.1)) r.2 := by
  have o0 : fs_OS (sX30_line FX32_isDue (FX33_isOn n)) 0 1 (fs_Con (fk_E s0 H0 oa D) l 1 ⟨"BoardMachine$Signals$Timer", "isDue", "(I)Z"⟩ prog_93_method_7_code 2 (Option.some Jvm.ClassFile.FieldType.boolean)) := by
    intro As M r h
    obtain ⟨v0, t0, rfl, g0⟩ := fe_tR_d h
    obtain ⟨v1, t1, rfl, g1⟩ := fe_tI_d g0
    obtain ⟨rfl, hz⟩ := fe_t0_d g1
    exact zX32_isDue K l v0 v1 M r hz
  have o1 : fs_OS (sX30_line FX32_isDue (FX33_isOn n)) 1 1 (fs_Con (fk_E s0 H0 oa D) l 2 ⟨"BoardMachine$Signals$Controller", "isOn", "(I)Z"⟩ prog_89_method_10_code 2 (Option.some Jvm.ClassFile.FieldType.boolean)) := by
    intro As M r h
    obtain ⟨v0, t0, rfl, g0⟩ := fe_tR_d h
    obtain ⟨v1, t1, rfl, g1⟩ := fe_tI_d g0
    obtain ⟨rfl, hz⟩ := fe_t0_d g1
    exact zX33_isOn K l n v0 v1 M r hz
  refine fs_method (own := "BoardMachine$Signals$SignalUnit") rfl (by decide) K.2.1 (by rw [fe_slen]; exact (Nat.le_of_ble_eq_true rfl)) (mX30_line n a0 a1 a2 M r h) (hX30_line n) 0 rfl (L0 := [(0, .ref a0), (1, .int a1), (2, .int a2)]) (fun E => fe_args_e E [.ref a0, .int a1, .int a2] 0) ((eX30_line (FX30_line_0 n ) (FX30_line_54 n ) a0 a1 a2 M).trans h) (fe_ki_k r) (fun H hR => fs_nr_o (by decide) (by decide)) ?_
  intro p e s m args below meth c Q C hnm
  have hw : s0.WarmedH s.vm := C.2.2.2.2.1
  refine fe_all C fk_hwr cX30_line [37, 40, 56, 60, 65, 73, 78, 84] (by decide +kernel) (fe_fil (cps := [(37, 40, .getfield 1006956862), (40, 43, .getfield 1027932482), (56, 59, .getfield 1006956862), (60, 63, .invokevirtual 9519184), (65, 68, .getfield 1011151166), (73, 76, .invokevirtual 76624973), (78, 81, .getfield 1011151166), (84, 87, .invokevirtual 76624973)]) (by decide +kernel) ?_)
  refine fs_c1 (fs_getf (pc := 37) (n := 1006956862) (idx := 33) (ref := "BoardMachine$Signals$SignalUnit") (O := "BoardMachine$Signals$SignalUnit") (name := "timer") (desc := "LBoardMachine$Signals$Timer;") C (by decide +kernel) (Or.inl (kw K hw q1017)) (fun _ h => h) (Nat.le_of_ble_eq_true rfl) (Nat.le_of_ble_eq_true rfl) (fs_one (⟨_, ff_79_240 s0 H0 oa D⟩))) ?_
  refine fs_c1 (fs_getf (pc := 40) (n := 1027932482) (idx := 67) (ref := "BoardMachine$Signals$Timer") (O := "BoardMachine$Signals$Timer") (name := "soft") (desc := "[I") C (by decide +kernel) (Or.inr ⟨_, kF K hw q978⟩) (fun _ h => h) (Nat.le_of_ble_eq_true rfl) (Nat.le_of_ble_eq_true rfl) (fs_one (⟨_, ff_80_245 s0 H0 oa D⟩))) ?_
  refine fs_c1 (fs_getf (pc := 56) (n := 1006956862) (idx := 33) (ref := "BoardMachine$Signals$SignalUnit") (O := "BoardMachine$Signals$SignalUnit") (name := "timer") (desc := "LBoardMachine$Signals$Timer;") C (by decide +kernel) (Or.inl (kw K hw q1017)) (fun _ h => h) (Nat.le_of_ble_eq_true rfl) (Nat.le_of_ble_eq_true rfl) (fs_one (⟨_, ff_79_240 s0 H0 oa D⟩))) ?_
  refine fs_c1 (fs_inv_virtual (pc := 60) (n := 9519184) C (Nat.le_of_ble_eq_true rfl) (Nat.le_of_ble_eq_true rfl) (fs_lk_virtual (idx := 71) (y := ⟨"BoardMachine$Signals$Timer", "isDue", "(I)Z"⟩) (bytes := prog_93_method_7_code) (maxL := 2) (rt := (Option.some Jvm.ClassFile.FieldType.boolean)) (d := 1) C (Nat.le_of_ble_eq_true rfl) (Nat.le_of_ble_eq_true rfl) (by decide +kernel) (kw K hw q2871) (kw K hw q343) (kw K hw q2869) (Or.inl (kw K hw q2868)) ⟨by decide, by decide⟩ rfl (Nat.le_of_ble_eq_true rfl) (Nat.le_of_ble_eq_true rfl) (fs_one (⟨_, rfl, kw K hw q2870⟩))) fs_con_mono o0) ?_
  refine fs_c1 (fs_getf (pc := 65) (n := 1011151166) (idx := 40) (ref := "BoardMachine$Signals$SignalUnit") (O := "BoardMachine$Signals$SignalUnit") (name := "controller") (desc := "LBoardMachine$Signals$Controller;") C (by decide +kernel) (Or.inl (kw K hw q1019)) (fun _ h => h) (Nat.le_of_ble_eq_true rfl) (Nat.le_of_ble_eq_true rfl) (fs_one (⟨_, ff_79_241 s0 H0 oa D⟩))) ?_
  refine fs_c1 (fs_inv_virtual (pc := 73) (n := 76624973) C (Nat.le_of_ble_eq_true rfl) (Nat.le_of_ble_eq_true rfl) (fs_lk_virtual (idx := 74) (y := ⟨"BoardMachine$Signals$Controller", "isOn", "(I)Z"⟩) (bytes := prog_89_method_10_code) (maxL := 2) (rt := (Option.some Jvm.ClassFile.FieldType.boolean)) (d := 2) C (Nat.le_of_ble_eq_true rfl) (Nat.le_of_ble_eq_true rfl) (by decide +kernel) (kw K hw q2876) (kw K hw q344) (kw K hw q2874) (Or.inl (kw K hw q2873)) ⟨by decide, by decide⟩ rfl (Nat.le_of_ble_eq_true rfl) (Nat.le_of_ble_eq_true rfl) (fs_one (⟨_, rfl, kw K hw q2875⟩))) fs_con_mono o1) ?_
  refine fs_c1 (fs_getf (pc := 78) (n := 1011151166) (idx := 40) (ref := "BoardMachine$Signals$SignalUnit") (O := "BoardMachine$Signals$SignalUnit") (name := "controller") (desc := "LBoardMachine$Signals$Controller;") C (by decide +kernel) (Or.inl (kw K hw q1019)) (fun _ h => h) (Nat.le_of_ble_eq_true rfl) (Nat.le_of_ble_eq_true rfl) (fs_one (⟨_, ff_79_241 s0 H0 oa D⟩))) ?_
  refine fs_c1 (fs_inv_virtual (pc := 84) (n := 76624973) C (Nat.le_of_ble_eq_true rfl) (Nat.le_of_ble_eq_true rfl) (fs_lk_virtual (idx := 74) (y := ⟨"BoardMachine$Signals$Controller", "isOn", "(I)Z"⟩) (bytes := prog_89_method_10_code) (maxL := 2) (rt := (Option.some Jvm.ClassFile.FieldType.boolean)) (d := 2) C (Nat.le_of_ble_eq_true rfl) (Nat.le_of_ble_eq_true rfl) (by decide +kernel) (kw K hw q2876) (kw K hw q344) (kw K hw q2874) (Or.inl (kw K hw q2873)) ⟨by decide, by decide⟩ rfl (Nat.le_of_ble_eq_true rfl) (Nat.le_of_ble_eq_true rfl) (fs_one (⟨_, rfl, kw K hw q2875⟩))) fs_con_mono o1) ?_
  exact fs_c0
theorem hX74_line : fe_H (sX74_line) cX74_line [0, 37] fe_kv [] 28 (fun _ => dX74_line FX74_line_0 FX74_line_37) := by
  intro j pc L st M r hc h
  rcases fe_mem_c hc with rfl | hc
  · obtain ⟨w0, m0, h⟩ := fe_lR_d h
    obtain ⟨w1, m1, h⟩ := fe_lI_d h
    obtain ⟨w2, m2, h⟩ := fe_lI_d h
    obtain ⟨rfl, hz⟩ := fe_t0_d h
    exact ⟨[(0, .ref w0), (1, .int w1), (2, .int w2)], (fe_cs m0 (fe_cs m1 (fe_cs m2 fe_nl))), Or.inr ((bX74_line_0 FX74_line_0 FX74_line_37 w0 w1 w2 M).symm.trans hz)⟩
  rcases fe_mem_c hc with rfl | hc
  · obtain ⟨s1, t1, rfl, g1⟩ := fe_tL_d h
    obtain ⟨s0, t0, rfl, g0⟩ := fe_tR_d g1
    obtain ⟨rfl, hz⟩ := fe_t0_d g0
    exact ⟨[], fe_nl, Or.inr ((bX74_line_37 FX74_line_0 FX74_line_37 s0 s1 M).symm.trans hz)⟩
  exact fe_mem_0 hc
theorem vX74_line : fe_SB (sX74_line) := by
  refine ⟨?_, ?_, ?_, ?_⟩
  · intro i As M r h
    exact fe_no h
  · intro i As M r h
    exact fe_no h
  · intro i As M r h
    exact fe_no h
  · intro i As M r h
    exact fe_no h
theorem eX74_line (g0 : Nat → Int32 → Int32 → FM → Option (FM)) (g37 : Nat → Int64 → FM → Option (FM)) (a0 : Nat) (a1 : Int32) (a2 : Int32) (M : FM) : dX74_line g0 g37 0 [(0, .ref a0), (1, .int a1), (2, .int a2)] [] M = g0 a0 a1 a2 M := by rfl
theorem mX74_line (a0 : Nat) (a1 : Int32) (a2 : Int32) (M : FM) (r : FM) (h : FX74_line a0 a1 a2 M = some r) : fm_nx M ≤ fm_nx r ∧ fm_ns M ≤ fm_ns r :=
  fe_mono (L0 := [(0, .ref a0), (1, .int a1), (2, .int a2)]) (vX74_line) (by decide +kernel) (hX74_line) (fe_kv_k r) 0 rfl ((eX74_line FX74_line_0 FX74_line_37 a0 a1 a2 M).trans h)
theorem zX74_line {s0 : State} {H0 : Heap} {oa : Nat → Nat} {D : va_G} (K : fk s0 H0 oa D) (l : Launch) (a0 : Nat) (a1 : Int32) (a2 : Int32) (M : FM) (r : FM) (h : FX74_line a0 a1 a2 M = some r) : fs_Con (fk_E s0 H0 oa D) l 1 ⟨"BoardMachine$Controls$ControlUnit", "line", "(IZ)V"⟩ prog_5_method_17_code 3 (Option.none : Option Jvm.ClassFile.FieldType) [.ref a0, .int a1, .int a2] M none r := by
  refine fs_method (own := "BoardMachine$Controls$ControlUnit") rfl (by decide) K.2.1 (by rw [fe_slen]; exact (Nat.le_of_ble_eq_true rfl)) (mX74_line a0 a1 a2 M r h) (hX74_line) 0 rfl (L0 := [(0, .ref a0), (1, .int a1), (2, .int a2)]) (fun E => fe_args_e E [.ref a0, .int a1, .int a2] 0) ((eX74_line FX74_line_0 FX74_line_37 a0 a1 a2 M).trans h) (fe_kv_k r) (fun H hR => fs_nr_o (by decide) (by decide)) ?_
  intro p e s m args below meth c Q C hnm
  have hw : s0.WarmedH s.vm := C.2.2.2.2.1
  refine fe_all C fk_hwr cX74_line [1, 9, 12, 23, 26, 32, 37] (by decide +kernel) (fe_fil (cps := [(1, 4, .getfield 130072626), (9, 12, .getfield 130072626), (12, 15, .getfield 180416573), (23, 26, .getfield 130072626), (26, 29, .getfield 180416573), (32, 35, .jsr_w (-1)), (37, 40, .putfield 180416573)]) (by decide +kernel) ?_)
  refine fs_c1 (fs_getf (pc := 1) (n := 130072626) (idx := 59) (ref := "BoardMachine$Controls$ControlUnit") (O := "BoardMachine$Controls$ControlUnit") (name := "pending") (desc := "LBoardMachine$Controls$Pending;") C (by decide +kernel) (Or.inl (kw K hw q1864)) (fun _ h => h) (Nat.le_of_ble_eq_true rfl) (Nat.le_of_ble_eq_true rfl) (fs_one (⟨_, ff_12_31 s0 H0 oa D⟩))) ?_
  refine fs_c1 (fs_getf (pc := 9) (n := 130072626) (idx := 59) (ref := "BoardMachine$Controls$ControlUnit") (O := "BoardMachine$Controls$ControlUnit") (name := "pending") (desc := "LBoardMachine$Controls$Pending;") C (by decide +kernel) (Or.inl (kw K hw q1864)) (fun _ h => h) (Nat.le_of_ble_eq_true rfl) (Nat.le_of_ble_eq_true rfl) (fs_one (⟨_, ff_12_31 s0 H0 oa D⟩))) ?_
  refine fs_c1 (fs_getf (pc := 12) (n := 180416573) (idx := 198) (ref := "BoardMachine$Controls$Pending") (O := "BoardMachine$Controls$Pending") (name := "lines") (desc := "J") C (by decide +kernel) (Or.inr ⟨_, kF K hw q1749⟩) (fun _ h => h) (Nat.le_of_ble_eq_true rfl) (Nat.le_of_ble_eq_true rfl) (fs_one (⟨_, ff_15_43 s0 H0 oa D⟩))) ?_
  refine fs_c1 (fs_getf (pc := 23) (n := 130072626) (idx := 59) (ref := "BoardMachine$Controls$ControlUnit") (O := "BoardMachine$Controls$ControlUnit") (name := "pending") (desc := "LBoardMachine$Controls$Pending;") C (by decide +kernel) (Or.inl (kw K hw q1864)) (fun _ h => h) (Nat.le_of_ble_eq_true rfl) (Nat.le_of_ble_eq_true rfl) (fs_one (⟨_, ff_12_31 s0 H0 oa D⟩))) ?_
  refine fs_c1 (fs_getf (pc := 26) (n := 180416573) (idx := 198) (ref := "BoardMachine$Controls$Pending") (O := "BoardMachine$Controls$Pending") (name := "lines") (desc := "J") C (by decide +kernel) (Or.inr ⟨_, kF K hw q1749⟩) (fun _ h => h) (Nat.le_of_ble_eq_true rfl) (Nat.le_of_ble_eq_true rfl) (fs_one (⟨_, ff_15_43 s0 H0 oa D⟩))) ?_
  refine fs_c1 (fs_ldcl (pc := 32) (idx := 73) (v := -1) C (by decide +kernel) (kw K hw q1798)) ?_
  refine fs_c1 (fs_putf (pc := 37) (n := 180416573) (idx := 198) (ref := "BoardMachine$Controls$Pending") (O := "BoardMachine$Controls$Pending") (name := "lines") (desc := "J") (fin := false) (ty := .long) C (by decide +kernel) (Or.inl ⟨rfl, Or.inr ⟨_, kF K hw q1749⟩⟩) (fun _ h => h) (Nat.le_of_ble_eq_true rfl) (Nat.le_of_ble_eq_true rfl) (Nat.le_of_ble_eq_true rfl) rfl rfl (by decide) (fs_one (⟨rfl, ff_15_43 s0 H0 oa D⟩))) ?_
  exact fs_c0
theorem hX46_look (n : Nat) : fe_H (sX46_look (FX30_line n) FX74_line FX10_time) cX46_look [0] fe_kv [] 53 (fun _ => dX46_look (FX46_look_0 n)) := by
  intro j pc L st M r hc h
  rcases fe_mem_c hc with rfl | hc
  · obtain ⟨w0, m0, h⟩ := fe_lR_d h
    obtain ⟨rfl, hz⟩ := fe_t0_d h
    exact ⟨[(0, .ref w0)], (fe_cs m0 fe_nl), Or.inr ((bX46_look_0 (FX30_line n) FX74_line FX10_time (FX46_look_0 n ) w0 M).symm.trans hz)⟩
  exact fe_mem_0 hc
theorem vX46_look (n : Nat) : fe_SB (sX46_look (FX30_line n) FX74_line FX10_time) := by
  refine ⟨?_, ?_, ?_, ?_⟩
  · intro i As M r h
    rcases fe_bc h with h | h
    · obtain ⟨v0, t0, rfl, g0⟩ := fe_tR_d h
      obtain ⟨v1, t1, rfl, g1⟩ := fe_tI_d g0
      obtain ⟨v2, t2, rfl, g2⟩ := fe_tI_d g1
      obtain ⟨rfl, hz⟩ := fe_t0_d g2
      exact mX74_line v0 v1 v2 M r hz
    exact fe_no h
  · intro i As M r h
    rcases fe_bc h with h | h
    · obtain ⟨v0, t0, rfl, g0⟩ := fe_tR_d h
      obtain ⟨v1, t1, rfl, g1⟩ := fe_tI_d g0
      obtain ⟨v2, t2, rfl, g2⟩ := fe_tI_d g1
      obtain ⟨rfl, hz⟩ := fe_t0_d g2
      exact mX30_line n v0 v1 v2 M r hz
    exact fe_no h
  · intro i As M r h
    rcases fe_bc h with h | h
    · obtain ⟨v0, t0, rfl, g0⟩ := fe_tR_d h
      obtain ⟨rfl, hz⟩ := fe_t0_d g0
      exact mX10_time v0 M r hz
    exact fe_no h
  · intro i As M r h
    exact fe_no h
theorem eX46_look (g0 : Nat → FM → Option (FM)) (a0 : Nat) (M : FM) : dX46_look g0 0 [(0, .ref a0)] [] M = g0 a0 M := by rfl
theorem mX46_look (n : Nat) (a0 : Nat) (M : FM) (r : FM) (h : FX46_look n a0 M = some r) : fm_nx M ≤ fm_nx r ∧ fm_ns M ≤ fm_ns r :=
  fe_mono (L0 := [(0, .ref a0)]) (vX46_look n) (by decide +kernel) (hX46_look n) (fe_kv_k r) 0 rfl ((eX46_look (FX46_look_0 n ) a0 M).trans h)
theorem zX46_look {s0 : State} {H0 : Heap} {oa : Nat → Nat} {D : va_G} (K : fk s0 H0 oa D) (l : Launch) (n : Nat) (a0 : Nat) (M : FM) (r : FM) (h : FX46_look n a0 M = some r) : fs_Con (fk_E s0 H0 oa D) l 4 ⟨"BoardMachine$Processor", "look", "()V"⟩ prog_86_method_30_code 2 (Option.none : Option Jvm.ClassFile.FieldType) [.ref a0] M none r := by
  have o0 : fs_OS (sX46_look (FX30_line n) FX74_line FX10_time) 0 1 (fs_Con (fk_E s0 H0 oa D) l 3 ⟨"BoardMachine$Signals$SignalUnit", "line", "(II)Z"⟩ prog_92_method_6_code 3 (Option.some Jvm.ClassFile.FieldType.boolean)) := by
    intro As M r h
    obtain ⟨v0, t0, rfl, g0⟩ := fe_tR_d h
    obtain ⟨v1, t1, rfl, g1⟩ := fe_tI_d g0
    obtain ⟨v2, t2, rfl, g2⟩ := fe_tI_d g1
    obtain ⟨rfl, hz⟩ := fe_t0_d g2
    exact zX30_line K l n v0 v1 v2 M r hz
  have o1 : fs_OS (sX46_look (FX30_line n) FX74_line FX10_time) 1 0 (fs_Con (fk_E s0 H0 oa D) l 1 ⟨"BoardMachine$Controls$ControlUnit", "line", "(IZ)V"⟩ prog_5_method_17_code 3 (Option.none : Option Jvm.ClassFile.FieldType)) := by
    intro As M r h
    obtain ⟨v0, t0, rfl, g0⟩ := fe_tR_d h
    obtain ⟨v1, t1, rfl, g1⟩ := fe_tI_d g0
    obtain ⟨v2, t2, rfl, g2⟩ := fe_tI_d g1
    obtain ⟨rfl, hz⟩ := fe_t0_d g2
    exact zX74_line K l v0 v1 v2 M r hz
  have o2 : fs_OS (sX46_look (FX30_line n) FX74_line FX10_time) 2 2 (fs_Con (fk_E s0 H0 oa D) l 1 ⟨"BoardMachine$Board", "time", "()J"⟩ prog_2_method_7_code 1 (Option.some Jvm.ClassFile.FieldType.long)) := by
    intro As M r h
    obtain ⟨v0, t0, rfl, g0⟩ := fe_tR_d h
    obtain ⟨rfl, hz⟩ := fe_t0_d g0
    exact zX10_time K l v0 M r hz
  refine fs_method (own := "BoardMachine$Processor") rfl (by decide) K.2.1 (by rw [fe_slen]; exact (Nat.le_of_ble_eq_true rfl)) (mX46_look n a0 M r h) (hX46_look n) 0 rfl (L0 := [(0, .ref a0)]) (fun E => fe_args_e E [.ref a0] 0) ((eX46_look (FX46_look_0 n ) a0 M).trans h) (fe_kv_k r) (fun H hR => fs_nr_o (by decide) (by decide)) ?_
  intro p e s m args below meth c Q C hnm
  have hw : s0.WarmedH s.vm := C.2.2.2.2.1
  refine fe_all C fk_hwr cX46_look [1, 4, 9, 15, 19, 22, 26, 33, 38, 41, 45, 52, 57, 60, 64, 71, 76, 79, 83, 86, 90, 93, 96] (by decide +kernel) (fe_fil (cps := [(1, 4, .getfield 881111342), (4, 7, .getfield 79736878), (9, 12, .getfield 893694254), (15, 18, .getfield 876917036), (19, 22, .invokevirtual 13712463), (22, 25, .invokevirtual 79704076), (26, 29, .getfield 893694254), (33, 36, .getfield 876917036), (38, 41, .invokevirtual 13712463), (41, 44, .invokevirtual 79704076), (45, 48, .getfield 893694254), (52, 55, .getfield 876917036), (57, 60, .invokevirtual 13712463), (60, 63, .invokevirtual 79704076), (64, 67, .getfield 893694254), (71, 74, .getfield 876917036), (76, 79, .invokevirtual 13712463), (79, 82, .invokevirtual 79704076), (83, 86, .getfield 893694254), (86, 89, .getfield 151044146), (90, 93, .getfield 881111342), (93, 96, .invokevirtual 140520459), (96, 99, .putfield 172023877)]) (by decide +kernel) ?_)
  refine fs_c1 (fs_getf (pc := 1) (n := 881111342) (idx := 42) (ref := "BoardMachine$Processor") (O := "BoardMachine$Processor") (name := "board") (desc := "LBoardMachine$Board;") C (by decide +kernel) (Or.inl (kw K hw q2077)) (fun _ h => h) (Nat.le_of_ble_eq_true rfl) (Nat.le_of_ble_eq_true rfl) (fs_one (⟨_, ff_75_210 s0 H0 oa D⟩))) ?_
  refine fs_c1 (fs_getf (pc := 4) (n := 79736878) (idx := 457) (ref := "BoardMachine$Board") (O := "BoardMachine$Board") (name := "signals") (desc := "LBoardMachine$Signals$SignalUnit;") C (by decide +kernel) (Or.inr ⟨_, kF K hw q1044⟩) (fun _ h => h) (Nat.le_of_ble_eq_true rfl) (Nat.le_of_ble_eq_true rfl) (fs_one (⟨_, ff_11_19 s0 H0 oa D⟩))) ?_
  refine fs_c1 (fs_getf (pc := 9) (n := 893694254) (idx := 55) (ref := "BoardMachine$Processor") (O := "BoardMachine$Processor") (name := "controls") (desc := "LBoardMachine$Controls$ControlUnit;") C (by decide +kernel) (Or.inl (kw K hw q2082)) (fun _ h => h) (Nat.le_of_ble_eq_true rfl) (Nat.le_of_ble_eq_true rfl) (fs_one (⟨_, ff_75_213 s0 H0 oa D⟩))) ?_
  refine fs_c1 (fs_getf (pc := 15) (n := 876917036) (idx := 38) (ref := "BoardMachine$Processor") (O := "BoardMachine$Processor") (name := "number") (desc := "I") C (by decide +kernel) (Or.inl (kw K hw q2076)) (fun _ h => h) (Nat.le_of_ble_eq_true rfl) (Nat.le_of_ble_eq_true rfl) (fs_one (⟨_, ff_75_209 s0 H0 oa D⟩))) ?_
  refine fs_c1 (fs_inv_virtual (pc := 19) (n := 13712463) C (Nat.le_of_ble_eq_true rfl) (Nat.le_of_ble_eq_true rfl) (fs_lk_virtual (idx := 461) (y := ⟨"BoardMachine$Signals$SignalUnit", "line", "(II)Z"⟩) (bytes := prog_92_method_6_code) (maxL := 3) (rt := (Option.some Jvm.ClassFile.FieldType.boolean)) (d := 3) C (Nat.le_of_ble_eq_true rfl) (Nat.le_of_ble_eq_true rfl) (by decide +kernel) (kw K hw q2867) (kw K hw q341) (kw K hw q2865) (Or.inl (kw K hw q2864)) ⟨by decide, by decide⟩ rfl (Nat.le_of_ble_eq_true rfl) (Nat.le_of_ble_eq_true rfl) (fs_one (⟨_, rfl, kw K hw q2866⟩))) fs_con_mono o0) ?_
  refine fs_c1 (fs_inv_virtual (pc := 22) (n := 79704076) C (Nat.le_of_ble_eq_true rfl) (Nat.le_of_ble_eq_true rfl) (fs_lk_virtual (idx := 467) (y := ⟨"BoardMachine$Controls$ControlUnit", "line", "(IZ)V"⟩) (bytes := prog_5_method_17_code) (maxL := 3) (rt := (Option.none : Option Jvm.ClassFile.FieldType)) (d := 1) C (Nat.le_of_ble_eq_true rfl) (Nat.le_of_ble_eq_true rfl) (by decide +kernel) (kw K hw q2884) (kw K hw q385) (kw K hw q2882) (Or.inl (kw K hw q2881)) ⟨by decide, by decide⟩ rfl (Nat.le_of_ble_eq_true rfl) (Nat.le_of_ble_eq_true rfl) (fs_one (⟨_, rfl, kw K hw q2883⟩))) fs_con_mono o1) ?_
  refine fs_c1 (fs_getf (pc := 26) (n := 893694254) (idx := 55) (ref := "BoardMachine$Processor") (O := "BoardMachine$Processor") (name := "controls") (desc := "LBoardMachine$Controls$ControlUnit;") C (by decide +kernel) (Or.inl (kw K hw q2082)) (fun _ h => h) (Nat.le_of_ble_eq_true rfl) (Nat.le_of_ble_eq_true rfl) (fs_one (⟨_, ff_75_213 s0 H0 oa D⟩))) ?_
  refine fs_c1 (fs_getf (pc := 33) (n := 876917036) (idx := 38) (ref := "BoardMachine$Processor") (O := "BoardMachine$Processor") (name := "number") (desc := "I") C (by decide +kernel) (Or.inl (kw K hw q2076)) (fun _ h => h) (Nat.le_of_ble_eq_true rfl) (Nat.le_of_ble_eq_true rfl) (fs_one (⟨_, ff_75_209 s0 H0 oa D⟩))) ?_
  refine fs_c1 (fs_inv_virtual (pc := 38) (n := 13712463) C (Nat.le_of_ble_eq_true rfl) (Nat.le_of_ble_eq_true rfl) (fs_lk_virtual (idx := 461) (y := ⟨"BoardMachine$Signals$SignalUnit", "line", "(II)Z"⟩) (bytes := prog_92_method_6_code) (maxL := 3) (rt := (Option.some Jvm.ClassFile.FieldType.boolean)) (d := 3) C (Nat.le_of_ble_eq_true rfl) (Nat.le_of_ble_eq_true rfl) (by decide +kernel) (kw K hw q2867) (kw K hw q341) (kw K hw q2865) (Or.inl (kw K hw q2864)) ⟨by decide, by decide⟩ rfl (Nat.le_of_ble_eq_true rfl) (Nat.le_of_ble_eq_true rfl) (fs_one (⟨_, rfl, kw K hw q2866⟩))) fs_con_mono o0) ?_
  refine fs_c1 (fs_inv_virtual (pc := 41) (n := 79704076) C (Nat.le_of_ble_eq_true rfl) (Nat.le_of_ble_eq_true rfl) (fs_lk_virtual (idx := 467) (y := ⟨"BoardMachine$Controls$ControlUnit", "line", "(IZ)V"⟩) (bytes := prog_5_method_17_code) (maxL := 3) (rt := (Option.none : Option Jvm.ClassFile.FieldType)) (d := 1) C (Nat.le_of_ble_eq_true rfl) (Nat.le_of_ble_eq_true rfl) (by decide +kernel) (kw K hw q2884) (kw K hw q385) (kw K hw q2882) (Or.inl (kw K hw q2881)) ⟨by decide, by decide⟩ rfl (Nat.le_of_ble_eq_true rfl) (Nat.le_of_ble_eq_true rfl) (fs_one (⟨_, rfl, kw K hw q2883⟩))) fs_con_mono o1) ?_
  refine fs_c1 (fs_getf (pc := 45) (n := 893694254) (idx := 55) (ref := "BoardMachine$Processor") (O := "BoardMachine$Processor") (name := "controls") (desc := "LBoardMachine$Controls$ControlUnit;") C (by decide +kernel) (Or.inl (kw K hw q2082)) (fun _ h => h) (Nat.le_of_ble_eq_true rfl) (Nat.le_of_ble_eq_true rfl) (fs_one (⟨_, ff_75_213 s0 H0 oa D⟩))) ?_
  refine fs_c1 (fs_getf (pc := 52) (n := 876917036) (idx := 38) (ref := "BoardMachine$Processor") (O := "BoardMachine$Processor") (name := "number") (desc := "I") C (by decide +kernel) (Or.inl (kw K hw q2076)) (fun _ h => h) (Nat.le_of_ble_eq_true rfl) (Nat.le_of_ble_eq_true rfl) (fs_one (⟨_, ff_75_209 s0 H0 oa D⟩))) ?_
  refine fs_c1 (fs_inv_virtual (pc := 57) (n := 13712463) C (Nat.le_of_ble_eq_true rfl) (Nat.le_of_ble_eq_true rfl) (fs_lk_virtual (idx := 461) (y := ⟨"BoardMachine$Signals$SignalUnit", "line", "(II)Z"⟩) (bytes := prog_92_method_6_code) (maxL := 3) (rt := (Option.some Jvm.ClassFile.FieldType.boolean)) (d := 3) C (Nat.le_of_ble_eq_true rfl) (Nat.le_of_ble_eq_true rfl) (by decide +kernel) (kw K hw q2867) (kw K hw q341) (kw K hw q2865) (Or.inl (kw K hw q2864)) ⟨by decide, by decide⟩ rfl (Nat.le_of_ble_eq_true rfl) (Nat.le_of_ble_eq_true rfl) (fs_one (⟨_, rfl, kw K hw q2866⟩))) fs_con_mono o0) ?_
  refine fs_c1 (fs_inv_virtual (pc := 60) (n := 79704076) C (Nat.le_of_ble_eq_true rfl) (Nat.le_of_ble_eq_true rfl) (fs_lk_virtual (idx := 467) (y := ⟨"BoardMachine$Controls$ControlUnit", "line", "(IZ)V"⟩) (bytes := prog_5_method_17_code) (maxL := 3) (rt := (Option.none : Option Jvm.ClassFile.FieldType)) (d := 1) C (Nat.le_of_ble_eq_true rfl) (Nat.le_of_ble_eq_true rfl) (by decide +kernel) (kw K hw q2884) (kw K hw q385) (kw K hw q2882) (Or.inl (kw K hw q2881)) ⟨by decide, by decide⟩ rfl (Nat.le_of_ble_eq_true rfl) (Nat.le_of_ble_eq_true rfl) (fs_one (⟨_, rfl, kw K hw q2883⟩))) fs_con_mono o1) ?_
  refine fs_c1 (fs_getf (pc := 64) (n := 893694254) (idx := 55) (ref := "BoardMachine$Processor") (O := "BoardMachine$Processor") (name := "controls") (desc := "LBoardMachine$Controls$ControlUnit;") C (by decide +kernel) (Or.inl (kw K hw q2082)) (fun _ h => h) (Nat.le_of_ble_eq_true rfl) (Nat.le_of_ble_eq_true rfl) (fs_one (⟨_, ff_75_213 s0 H0 oa D⟩))) ?_
  refine fs_c1 (fs_getf (pc := 71) (n := 876917036) (idx := 38) (ref := "BoardMachine$Processor") (O := "BoardMachine$Processor") (name := "number") (desc := "I") C (by decide +kernel) (Or.inl (kw K hw q2076)) (fun _ h => h) (Nat.le_of_ble_eq_true rfl) (Nat.le_of_ble_eq_true rfl) (fs_one (⟨_, ff_75_209 s0 H0 oa D⟩))) ?_
  refine fs_c1 (fs_inv_virtual (pc := 76) (n := 13712463) C (Nat.le_of_ble_eq_true rfl) (Nat.le_of_ble_eq_true rfl) (fs_lk_virtual (idx := 461) (y := ⟨"BoardMachine$Signals$SignalUnit", "line", "(II)Z"⟩) (bytes := prog_92_method_6_code) (maxL := 3) (rt := (Option.some Jvm.ClassFile.FieldType.boolean)) (d := 3) C (Nat.le_of_ble_eq_true rfl) (Nat.le_of_ble_eq_true rfl) (by decide +kernel) (kw K hw q2867) (kw K hw q341) (kw K hw q2865) (Or.inl (kw K hw q2864)) ⟨by decide, by decide⟩ rfl (Nat.le_of_ble_eq_true rfl) (Nat.le_of_ble_eq_true rfl) (fs_one (⟨_, rfl, kw K hw q2866⟩))) fs_con_mono o0) ?_
  refine fs_c1 (fs_inv_virtual (pc := 79) (n := 79704076) C (Nat.le_of_ble_eq_true rfl) (Nat.le_of_ble_eq_true rfl) (fs_lk_virtual (idx := 467) (y := ⟨"BoardMachine$Controls$ControlUnit", "line", "(IZ)V"⟩) (bytes := prog_5_method_17_code) (maxL := 3) (rt := (Option.none : Option Jvm.ClassFile.FieldType)) (d := 1) C (Nat.le_of_ble_eq_true rfl) (Nat.le_of_ble_eq_true rfl) (by decide +kernel) (kw K hw q2884) (kw K hw q385) (kw K hw q2882) (Or.inl (kw K hw q2881)) ⟨by decide, by decide⟩ rfl (Nat.le_of_ble_eq_true rfl) (Nat.le_of_ble_eq_true rfl) (fs_one (⟨_, rfl, kw K hw q2883⟩))) fs_con_mono o1) ?_
  refine fs_c1 (fs_getf (pc := 83) (n := 893694254) (idx := 55) (ref := "BoardMachine$Processor") (O := "BoardMachine$Processor") (name := "controls") (desc := "LBoardMachine$Controls$ControlUnit;") C (by decide +kernel) (Or.inl (kw K hw q2082)) (fun _ h => h) (Nat.le_of_ble_eq_true rfl) (Nat.le_of_ble_eq_true rfl) (fs_one (⟨_, ff_75_213 s0 H0 oa D⟩))) ?_
  refine fs_c1 (fs_getf (pc := 86) (n := 151044146) (idx := 470) (ref := "BoardMachine$Controls$ControlUnit") (O := "BoardMachine$Controls$ControlUnit") (name := "clock") (desc := "LBoardMachine$Controls$Masked;") C (by decide +kernel) (Or.inr ⟨_, kF K hw q1876⟩) (fun _ h => h) (Nat.le_of_ble_eq_true rfl) (Nat.le_of_ble_eq_true rfl) (fs_one (⟨_, ff_12_36 s0 H0 oa D⟩))) ?_
  refine fs_c1 (fs_getf (pc := 90) (n := 881111342) (idx := 42) (ref := "BoardMachine$Processor") (O := "BoardMachine$Processor") (name := "board") (desc := "LBoardMachine$Board;") C (by decide +kernel) (Or.inl (kw K hw q2077)) (fun _ h => h) (Nat.le_of_ble_eq_true rfl) (Nat.le_of_ble_eq_true rfl) (fs_one (⟨_, ff_75_210 s0 H0 oa D⟩))) ?_
  refine fs_c1 (fs_inv_virtual (pc := 93) (n := 140520459) C (Nat.le_of_ble_eq_true rfl) (Nat.le_of_ble_eq_true rfl) (fs_lk_virtual (idx := 473) (y := ⟨"BoardMachine$Board", "time", "()J"⟩) (bytes := prog_2_method_7_code) (maxL := 1) (rt := (Option.some Jvm.ClassFile.FieldType.long)) (d := 1) C (Nat.le_of_ble_eq_true rfl) (Nat.le_of_ble_eq_true rfl) (by decide +kernel) (kw K hw q2579) (kw K hw q320) (kw K hw q2577) (Or.inl (kw K hw q2885)) ⟨by decide, by decide⟩ rfl (Nat.le_of_ble_eq_true rfl) (Nat.le_of_ble_eq_true rfl) (fs_one (⟨_, rfl, kw K hw q2578⟩))) fs_con_mono o2) ?_
  refine fs_c1 (fs_putf (pc := 96) (n := 172023877) (idx := 163) (ref := "BoardMachine$Controls$Masked") (O := "BoardMachine$Controls$Masked") (name := "held") (desc := "J") (fin := false) (ty := .long) C (by decide +kernel) (Or.inl ⟨rfl, Or.inl (kw K hw q1722)⟩) (fun _ h => h) (Nat.le_of_ble_eq_true rfl) (Nat.le_of_ble_eq_true rfl) (Nat.le_of_ble_eq_true rfl) rfl rfl (by decide) (fs_rc (⟨rfl, ff_14_41 s0 H0 oa D⟩) (fs_rc (⟨rfl, ff_15_41 s0 H0 oa D⟩) (fs_rc (⟨rfl, ff_16_41 s0 H0 oa D⟩) (fs_one (⟨rfl, ff_17_41 s0 H0 oa D⟩)))))) ?_
  exact fs_c0
theorem hX79_show : fe_H (sX79_show) cX79_show [0] fe_kl [] 20 (fun _ => dX79_show FX79_show_0) := by
  intro j pc L st M r hc h
  rcases fe_mem_c hc with rfl | hc
  · obtain ⟨w0, m0, h⟩ := fe_lR_d h
    obtain ⟨rfl, hz⟩ := fe_t0_d h
    exact ⟨[(0, .ref w0)], (fe_cs m0 fe_nl), Or.inr ((bX79_show_0 FX79_show_0 w0 M).symm.trans hz)⟩
  exact fe_mem_0 hc
theorem vX79_show : fe_SB (sX79_show) := by
  refine ⟨?_, ?_, ?_, ?_⟩
  · intro i As M r h
    exact fe_no h
  · intro i As M r h
    exact fe_no h
  · intro i As M r h
    exact fe_no h
  · intro i As M r h
    exact fe_no h
theorem eX79_show (g0 : Nat → FM → Option (Int64 × FM)) (a0 : Nat) (M : FM) : dX79_show g0 0 [(0, .ref a0)] [] M = g0 a0 M := by rfl
theorem mX79_show (a0 : Nat) (M : FM) (r : Int64 × FM) (h : FX79_show a0 M = some r) : fm_nx M ≤ fm_nx r.2 ∧ fm_ns M ≤ fm_ns r.2 :=
  fe_mono (L0 := [(0, .ref a0)]) (vX79_show) (by decide +kernel) (hX79_show) (fe_kl_k r) 0 rfl ((eX79_show FX79_show_0 a0 M).trans h)
theorem zX79_show {s0 : State} {H0 : Heap} {oa : Nat → Nat} {D : va_G} (K : fk s0 H0 oa D) (l : Launch) (a0 : Nat) (M : FM) (r : Int64 × FM) (h : FX79_show a0 M = some r) : fs_Con (fk_E s0 H0 oa D) l 1 ⟨"BoardMachine$Controls$Pending", "show", "()J"⟩ prog_7_method_2_code 1 (Option.some Jvm.ClassFile.FieldType.long) [.ref a0] M (some (.long r.1)) r.2 := by
  refine fs_method (own := "BoardMachine$Controls$Pending") rfl (by decide) K.2.1 (by rw [fe_slen]; exact (Nat.le_of_ble_eq_true rfl)) (mX79_show a0 M r h) (hX79_show) 0 rfl (L0 := [(0, .ref a0)]) (fun E => fe_args_e E [.ref a0] 0) ((eX79_show FX79_show_0 a0 M).trans h) (fe_kl_k r) (fun H hR => fs_nr_o (by decide) (by decide)) ?_
  intro p e s m args below meth c Q C hnm
  have hw : s0.WarmedH s.vm := C.2.2.2.2.1
  refine fe_all C fk_hwr cX79_show [1, 5] (by decide +kernel) (fe_fil (cps := [(1, 4, .getfield 172027965), (5, 8, .getfield 180416573)]) (by decide +kernel) ?_)
  refine fs_c1 (fs_getf (pc := 1) (n := 172027965) (idx := 9) (ref := "BoardMachine$Controls$Pending") (O := "BoardMachine$Controls$Masked") (name := "held") (desc := "J") C (by decide +kernel) (Or.inl (kw K hw q1716)) (fs_sameF (kw (args := args) K hw q1717)) (Nat.le_of_ble_eq_true rfl) (Nat.le_of_ble_eq_true rfl) (fs_one (⟨_, ff_15_41 s0 H0 oa D⟩))) ?_
  refine fs_c1 (fs_getf (pc := 5) (n := 180416573) (idx := 15) (ref := "BoardMachine$Controls$Pending") (O := "BoardMachine$Controls$Pending") (name := "lines") (desc := "J") C (by decide +kernel) (Or.inl (kw K hw q1748)) (fun _ h => h) (Nat.le_of_ble_eq_true rfl) (Nat.le_of_ble_eq_true rfl) (fs_one (⟨_, ff_15_43 s0 H0 oa D⟩))) ?_
  exact fs_c0
theorem hX77_show : fe_H (sX77_show) cX77_show [0] fe_kl [] 20 (fun _ => dX77_show FX77_show_0) := by
  intro j pc L st M r hc h
  rcases fe_mem_c hc with rfl | hc
  · obtain ⟨w0, m0, h⟩ := fe_lR_d h
    obtain ⟨rfl, hz⟩ := fe_t0_d h
    exact ⟨[(0, .ref w0)], (fe_cs m0 fe_nl), Or.inr ((bX77_show_0 FX77_show_0 w0 M).symm.trans hz)⟩
  exact fe_mem_0 hc
theorem vX77_show : fe_SB (sX77_show) := by
  refine ⟨?_, ?_, ?_, ?_⟩
  · intro i As M r h
    exact fe_no h
  · intro i As M r h
    exact fe_no h
  · intro i As M r h
    exact fe_no h
  · intro i As M r h
    exact fe_no h
theorem eX77_show (g0 : Nat → FM → Option (Int64 × FM)) (a0 : Nat) (M : FM) : dX77_show g0 0 [(0, .ref a0)] [] M = g0 a0 M := by rfl
theorem mX77_show (a0 : Nat) (M : FM) (r : Int64 × FM) (h : FX77_show a0 M = some r) : fm_nx M ≤ fm_nx r.2 ∧ fm_ns M ≤ fm_ns r.2 :=
  fe_mono (L0 := [(0, .ref a0)]) (vX77_show) (by decide +kernel) (hX77_show) (fe_kl_k r) 0 rfl ((eX77_show FX77_show_0 a0 M).trans h)
theorem zX77_show {s0 : State} {H0 : Heap} {oa : Nat → Nat} {D : va_G} (K : fk s0 H0 oa D) (l : Launch) (a0 : Nat) (M : FM) (r : Int64 × FM) (h : FX77_show a0 M = some r) : fs_Con (fk_E s0 H0 oa D) l 1 ⟨"BoardMachine$Controls$Masked", "show", "()J"⟩ prog_6_method_2_code 1 (Option.some Jvm.ClassFile.FieldType.long) [.ref a0] M (some (.long r.1)) r.2 := by
  refine fs_method (own := "BoardMachine$Controls$Masked") rfl (by decide) K.2.1 (by rw [fe_slen]; exact (Nat.le_of_ble_eq_true rfl)) (mX77_show a0 M r h) (hX77_show) 0 rfl (L0 := [(0, .ref a0)]) (fun E => fe_args_e E [.ref a0] 0) ((eX77_show FX77_show_0 a0 M).trans h) (fe_kl_k r) (fun H hR => fs_nr_o (by decide) (by decide)) ?_
  intro p e s m args below meth c Q C hnm
  have hw : s0.WarmedH s.vm := C.2.2.2.2.1
  refine fe_all C fk_hwr cX77_show [1] (by decide +kernel) (fe_fil (cps := [(1, 4, .getfield 172023877)]) (by decide +kernel) ?_)
  refine fs_c1 (fs_getf (pc := 1) (n := 172023877) (idx := 13) (ref := "BoardMachine$Controls$Masked") (O := "BoardMachine$Controls$Masked") (name := "held") (desc := "J") C (by decide +kernel) (Or.inl (kw K hw q1718)) (fun _ h => h) (Nat.le_of_ble_eq_true rfl) (Nat.le_of_ble_eq_true rfl) (fs_rc (⟨_, ff_14_41 s0 H0 oa D⟩) (fs_rc (⟨_, ff_15_41 s0 H0 oa D⟩) (fs_rc (⟨_, ff_16_41 s0 H0 oa D⟩) (fs_one (⟨_, ff_17_41 s0 H0 oa D⟩)))))) ?_
  exact fs_c0
theorem hX78_two : fe_H (sX78_two) cX78_two [0] fe_ki [] 20 (fun _ => dX78_two FX78_two_0) := by
  intro j pc L st M r hc h
  rcases fe_mem_c hc with rfl | hc
  · obtain ⟨w0, m0, h⟩ := fe_lR_d h
    obtain ⟨w1, m1, h⟩ := fe_lI_d h
    obtain ⟨rfl, hz⟩ := fe_t0_d h
    exact ⟨[(0, .ref w0), (1, .int w1)], (fe_cs m0 (fe_cs m1 fe_nl)), Or.inr ((bX78_two_0 FX78_two_0 w0 w1 M).symm.trans hz)⟩
  exact fe_mem_0 hc
theorem vX78_two : fe_SB (sX78_two) := by
  refine ⟨?_, ?_, ?_, ?_⟩
  · intro i As M r h
    exact fe_no h
  · intro i As M r h
    exact fe_no h
  · intro i As M r h
    exact fe_no h
  · intro i As M r h
    exact fe_no h
theorem eX78_two (g0 : Nat → Int32 → FM → Option (Int32 × FM)) (a0 : Nat) (a1 : Int32) (M : FM) : dX78_two g0 0 [(0, .ref a0), (1, .int a1)] [] M = g0 a0 a1 M := by rfl
theorem mX78_two (a0 : Nat) (a1 : Int32) (M : FM) (r : Int32 × FM) (h : FX78_two a0 a1 M = some r) : fm_nx M ≤ fm_nx r.2 ∧ fm_ns M ≤ fm_ns r.2 :=
  fe_mono (L0 := [(0, .ref a0), (1, .int a1)]) (vX78_two) (by decide +kernel) (hX78_two) (fe_ki_k r) 0 rfl ((eX78_two FX78_two_0 a0 a1 M).trans h)
theorem zX78_two {s0 : State} {H0 : Heap} {oa : Nat → Nat} {D : va_G} (K : fk s0 H0 oa D) (l : Launch) (a0 : Nat) (a1 : Int32) (M : FM) (r : Int32 × FM) (h : FX78_two a0 a1 M = some r) : fs_Con (fk_E s0 H0 oa D) l 1 ⟨"BoardMachine$Controls$Status", "two", "(I)I"⟩ prog_10_method_4_code 2 (Option.some Jvm.ClassFile.FieldType.int) [.ref a0, .int a1] M (some (.int r.1)) r.2 := by
  refine fs_method (own := "BoardMachine$Controls$Status") rfl (by decide) K.2.1 (by rw [fe_slen]; exact (Nat.le_of_ble_eq_true rfl)) (mX78_two a0 a1 M r h) (hX78_two) 0 rfl (L0 := [(0, .ref a0), (1, .int a1)]) (fun E => fe_args_e E [.ref a0, .int a1] 0) ((eX78_two FX78_two_0 a0 a1 M).trans h) (fe_ki_k r) (fun H hR => fs_nr_o (by decide) (by decide)) ?_
  intro p e s m args below meth c Q C hnm
  have hw : s0.WarmedH s.vm := C.2.2.2.2.1
  refine fe_all C fk_hwr cX78_two [1] (by decide +kernel) (fe_fil (cps := [(1, 4, .getfield 172032065)]) (by decide +kernel) ?_)
  refine fs_c1 (fs_getf (pc := 1) (n := 172032065) (idx := 11) (ref := "BoardMachine$Controls$Status") (O := "BoardMachine$Controls$Masked") (name := "held") (desc := "J") C (by decide +kernel) (Or.inl (kw K hw q1719)) (fs_sameF (kw (args := args) K hw q1720)) (Nat.le_of_ble_eq_true rfl) (Nat.le_of_ble_eq_true rfl) (fs_one (⟨_, ff_16_41 s0 H0 oa D⟩))) ?_
  exact fs_c0
theorem hX78_summary : fe_H (sX78_summary FX78_two) cX78_summary [0, 17] fe_kl [] 20 (fun _ => dX78_summary FX78_summary_0 FX78_summary_17) := by
  intro j pc L st M r hc h
  rcases fe_mem_c hc with rfl | hc
  · obtain ⟨w0, m0, h⟩ := fe_lR_d h
    obtain ⟨rfl, hz⟩ := fe_t0_d h
    exact ⟨[(0, .ref w0)], (fe_cs m0 fe_nl), Or.inr ((bX78_summary_0 FX78_two FX78_summary_0 FX78_summary_17 w0 M).symm.trans hz)⟩
  rcases fe_mem_c hc with rfl | hc
  · obtain ⟨s0, t0, rfl, g0⟩ := fe_tL_d h
    obtain ⟨rfl, hz⟩ := fe_t0_d g0
    exact ⟨[], fe_nl, Or.inr ((bX78_summary_17 FX78_two FX78_summary_0 FX78_summary_17 s0 M).symm.trans hz)⟩
  exact fe_mem_0 hc
theorem vX78_summary : fe_SB (sX78_summary FX78_two) := by
  refine ⟨?_, ?_, ?_, ?_⟩
  · intro i As M r h
    exact fe_no h
  · intro i As M r h
    rcases fe_bc h with h | h
    · obtain ⟨v0, t0, rfl, g0⟩ := fe_tR_d h
      obtain ⟨v1, t1, rfl, g1⟩ := fe_tI_d g0
      obtain ⟨rfl, hz⟩ := fe_t0_d g1
      exact mX78_two v0 v1 M r hz
    exact fe_no h
  · intro i As M r h
    exact fe_no h
  · intro i As M r h
    exact fe_no h
theorem eX78_summary (g0 : Nat → FM → Option (Int64 × FM)) (g17 : Int64 → FM → Option (Int64 × FM)) (a0 : Nat) (M : FM) : dX78_summary g0 g17 0 [(0, .ref a0)] [] M = g0 a0 M := by rfl
theorem mX78_summary (a0 : Nat) (M : FM) (r : Int64 × FM) (h : FX78_summary a0 M = some r) : fm_nx M ≤ fm_nx r.2 ∧ fm_ns M ≤ fm_ns r.2 :=
  fe_mono (L0 := [(0, .ref a0)]) (vX78_summary) (by decide +kernel) (hX78_summary) (fe_kl_k r) 0 rfl ((eX78_summary FX78_summary_0 FX78_summary_17 a0 M).trans h)
theorem zX78_summary {s0 : State} {H0 : Heap} {oa : Nat → Nat} {D : va_G} (K : fk s0 H0 oa D) (l : Launch) (a0 : Nat) (M : FM) (r : Int64 × FM) (h : FX78_summary a0 M = some r) : fs_Con (fk_E s0 H0 oa D) l 2 ⟨"BoardMachine$Controls$Status", "summary", "()J"⟩ prog_10_method_6_code 1 (Option.some Jvm.ClassFile.FieldType.long) [.ref a0] M (some (.long r.1)) r.2 := by
  have o0 : fs_OS (sX78_summary FX78_two) 0 1 (fs_Con (fk_E s0 H0 oa D) l 1 ⟨"BoardMachine$Controls$Status", "two", "(I)I"⟩ prog_10_method_4_code 2 (Option.some Jvm.ClassFile.FieldType.int)) := by
    intro As M r h
    obtain ⟨v0, t0, rfl, g0⟩ := fe_tR_d h
    obtain ⟨v1, t1, rfl, g1⟩ := fe_tI_d g0
    obtain ⟨rfl, hz⟩ := fe_t0_d g1
    exact zX78_two K l v0 v1 M r hz
  refine fs_method (own := "BoardMachine$Controls$Status") rfl (by decide) K.2.1 (by rw [fe_slen]; exact (Nat.le_of_ble_eq_true rfl)) (mX78_summary a0 M r h) (hX78_summary) 0 rfl (L0 := [(0, .ref a0)]) (fun E => fe_args_e E [.ref a0] 0) ((eX78_summary FX78_summary_0 FX78_summary_17 a0 M).trans h) (fe_kl_k r) (fun H hR => fs_nr_o (by decide) (by decide)) ?_
  intro p e s m args below meth c Q C hnm
  have hw : s0.WarmedH s.vm := C.2.2.2.2.1
  refine fe_all C fk_hwr cX78_summary [3, 10] (by decide +kernel) (fe_fil (cps := [(3, 6, .invokevirtual 9453584), (10, 13, .jsr_w (-9223372036854775808))]) (by decide +kernel) ?_)
  refine fs_c1 (fs_inv_virtual (pc := 3) (n := 9453584) C (Nat.le_of_ble_eq_true rfl) (Nat.le_of_ble_eq_true rfl) (fs_lk_virtual (idx := 21) (y := ⟨"BoardMachine$Controls$Status", "two", "(I)I"⟩) (bytes := prog_10_method_4_code) (maxL := 2) (rt := (Option.some Jvm.ClassFile.FieldType.int)) (d := 1) C (Nat.le_of_ble_eq_true rfl) (Nat.le_of_ble_eq_true rfl) (by decide +kernel) (kw K hw q2910) (kw K hw q389) (kw K hw q2908) (Or.inl (kw K hw q2907)) ⟨by decide, by decide⟩ rfl (Nat.le_of_ble_eq_true rfl) (Nat.le_of_ble_eq_true rfl) (fs_one (⟨_, rfl, kw K hw q2909⟩))) fs_con_mono o0) ?_
  refine fs_c1 (fs_ldcl (pc := 10) (idx := 27) (v := -9223372036854775808) C (by decide +kernel) (kw K hw q2911)) ?_
  exact fs_c0
theorem hX78_show : fe_H (sX78_show FX78_summary) cX78_show [0] fe_kl [] 20 (fun _ => dX78_show FX78_show_0) := by
  intro j pc L st M r hc h
  rcases fe_mem_c hc with rfl | hc
  · obtain ⟨w0, m0, h⟩ := fe_lR_d h
    obtain ⟨rfl, hz⟩ := fe_t0_d h
    exact ⟨[(0, .ref w0)], (fe_cs m0 fe_nl), Or.inr ((bX78_show_0 FX78_summary FX78_show_0 w0 M).symm.trans hz)⟩
  exact fe_mem_0 hc
theorem vX78_show : fe_SB (sX78_show FX78_summary) := by
  refine ⟨?_, ?_, ?_, ?_⟩
  · intro i As M r h
    exact fe_no h
  · intro i As M r h
    exact fe_no h
  · intro i As M r h
    rcases fe_bc h with h | h
    · obtain ⟨v0, t0, rfl, g0⟩ := fe_tR_d h
      obtain ⟨rfl, hz⟩ := fe_t0_d g0
      exact mX78_summary v0 M r hz
    exact fe_no h
  · intro i As M r h
    exact fe_no h
theorem eX78_show (g0 : Nat → FM → Option (Int64 × FM)) (a0 : Nat) (M : FM) : dX78_show g0 0 [(0, .ref a0)] [] M = g0 a0 M := by rfl
theorem mX78_show (a0 : Nat) (M : FM) (r : Int64 × FM) (h : FX78_show a0 M = some r) : fm_nx M ≤ fm_nx r.2 ∧ fm_ns M ≤ fm_ns r.2 :=
  fe_mono (L0 := [(0, .ref a0)]) (vX78_show) (by decide +kernel) (hX78_show) (fe_kl_k r) 0 rfl ((eX78_show FX78_show_0 a0 M).trans h)
theorem zX78_show {s0 : State} {H0 : Heap} {oa : Nat → Nat} {D : va_G} (K : fk s0 H0 oa D) (l : Launch) (a0 : Nat) (M : FM) (r : Int64 × FM) (h : FX78_show a0 M = some r) : fs_Con (fk_E s0 H0 oa D) l 3 ⟨"BoardMachine$Controls$Status", "show", "()J"⟩ prog_10_method_7_code 1 (Option.some Jvm.ClassFile.FieldType.long) [.ref a0] M (some (.long r.1)) r.2 := by
  have o0 : fs_OS (sX78_show FX78_summary) 0 2 (fs_Con (fk_E s0 H0 oa D) l 2 ⟨"BoardMachine$Controls$Status", "summary", "()J"⟩ prog_10_method_6_code 1 (Option.some Jvm.ClassFile.FieldType.long)) := by
    intro As M r h
    obtain ⟨v0, t0, rfl, g0⟩ := fe_tR_d h
    obtain ⟨rfl, hz⟩ := fe_t0_d g0
    exact zX78_summary K l v0 M r hz
  refine fs_method (own := "BoardMachine$Controls$Status") rfl (by decide) K.2.1 (by rw [fe_slen]; exact (Nat.le_of_ble_eq_true rfl)) (mX78_show a0 M r h) (hX78_show) 0 rfl (L0 := [(0, .ref a0)]) (fun E => fe_args_e E [.ref a0] 0) ((eX78_show FX78_show_0 a0 M).trans h) (fe_kl_k r) (fun H hR => fs_nr_o (by decide) (by decide)) ?_
  intro p e s m args below meth c Q C hnm
  have hw : s0.WarmedH s.vm := C.2.2.2.2.1
  refine fe_all C fk_hwr cX78_show [1, 4, 9] (by decide +kernel) (fe_fil (cps := [(1, 4, .getfield 172032065), (4, 7, .jsr_w (42949672960)), (9, 12, .invokevirtual 6307856)]) (by decide +kernel) ?_)
  refine fs_c1 (fs_getf (pc := 1) (n := 172032065) (idx := 11) (ref := "BoardMachine$Controls$Status") (O := "BoardMachine$Controls$Masked") (name := "held") (desc := "J") C (by decide +kernel) (Or.inl (kw K hw q1719)) (fs_sameF (kw (args := args) K hw q1720)) (Nat.le_of_ble_eq_true rfl) (Nat.le_of_ble_eq_true rfl) (fs_one (⟨_, ff_16_41 s0 H0 oa D⟩))) ?_
  refine fs_c1 (fs_ldcl (pc := 4) (idx := 29) (v := 42949672960) C (by decide +kernel) (kw K hw q2902)) ?_
  refine fs_c1 (fs_inv_virtual (pc := 9) (n := 6307856) C (Nat.le_of_ble_eq_true rfl) (Nat.le_of_ble_eq_true rfl) (fs_lk_virtual (idx := 31) (y := ⟨"BoardMachine$Controls$Status", "summary", "()J"⟩) (bytes := prog_10_method_6_code) (maxL := 1) (rt := (Option.some Jvm.ClassFile.FieldType.long)) (d := 2) C (Nat.le_of_ble_eq_true rfl) (Nat.le_of_ble_eq_true rfl) (by decide +kernel) (kw K hw q2906) (kw K hw q389) (kw K hw q2904) (Or.inl (kw K hw q2903)) ⟨by decide, by decide⟩ rfl (Nat.le_of_ble_eq_true rfl) (Nat.le_of_ble_eq_true rfl) (fs_one (⟨_, rfl, kw K hw q2905⟩))) fs_con_mono o0) ?_
  exact fs_c0
theorem hX74_waiting : fe_H (sX74_waiting FX79_show FX77_show FX78_show) cX74_waiting [0] fe_kl [] 20 (fun _ => dX74_waiting FX74_waiting_0) := by
  intro j pc L st M r hc h
  rcases fe_mem_c hc with rfl | hc
  · obtain ⟨w0, m0, h⟩ := fe_lR_d h
    obtain ⟨rfl, hz⟩ := fe_t0_d h
    exact ⟨[(0, .ref w0)], (fe_cs m0 fe_nl), Or.inr ((bX74_waiting_0 FX79_show FX77_show FX78_show FX74_waiting_0 w0 M).symm.trans hz)⟩
  exact fe_mem_0 hc
theorem vX74_waiting : fe_SB (sX74_waiting FX79_show FX77_show FX78_show) := by
  refine ⟨?_, ?_, ?_, ?_⟩
  · intro i As M r h
    exact fe_no h
  · intro i As M r h
    exact fe_no h
  · intro i As M r h
    rcases fe_bc h with h | h
    · obtain ⟨v0, t0, rfl, g0⟩ := fe_tR_d h
      obtain ⟨rfl, hz⟩ := fe_t0_d g0
      exact mX79_show v0 M r hz
    rcases fe_bc h with h | h
    · obtain ⟨v0, t0, rfl, g0⟩ := fe_tR_d h
      obtain ⟨rfl, hz⟩ := fe_t0_d g0
      exact mX77_show v0 M r hz
    rcases fe_bc h with h | h
    · obtain ⟨v0, t0, rfl, g0⟩ := fe_tR_d h
      obtain ⟨rfl, hz⟩ := fe_t0_d g0
      exact mX78_show v0 M r hz
    exact fe_no h
  · intro i As M r h
    exact fe_no h
theorem eX74_waiting (g0 : Nat → FM → Option (Int64 × FM)) (a0 : Nat) (M : FM) : dX74_waiting g0 0 [(0, .ref a0)] [] M = g0 a0 M := by rfl
theorem mX74_waiting (a0 : Nat) (M : FM) (r : Int64 × FM) (h : FX74_waiting a0 M = some r) : fm_nx M ≤ fm_nx r.2 ∧ fm_ns M ≤ fm_ns r.2 :=
  fe_mono (L0 := [(0, .ref a0)]) (vX74_waiting) (by decide +kernel) (hX74_waiting) (fe_kl_k r) 0 rfl ((eX74_waiting FX74_waiting_0 a0 M).trans h)
theorem zX74_waiting {s0 : State} {H0 : Heap} {oa : Nat → Nat} {D : va_G} (K : fk s0 H0 oa D) (l : Launch) (a0 : Nat) (M : FM) (r : Int64 × FM) (h : FX74_waiting a0 M = some r) : fs_Con (fk_E s0 H0 oa D) l 4 ⟨"BoardMachine$Controls$ControlUnit", "waiting", "()J"⟩ prog_5_method_14_code 1 (Option.some Jvm.ClassFile.FieldType.long) [.ref a0] M (some (.long r.1)) r.2 := by
  have o0 : fs_OS (sX74_waiting FX79_show FX77_show FX78_show) 0 2 (fs_Con (fk_E s0 H0 oa D) l 1 ⟨"BoardMachine$Controls$Pending", "show", "()J"⟩ prog_7_method_2_code 1 (Option.some Jvm.ClassFile.FieldType.long)) := by
    intro As M r h
    obtain ⟨v0, t0, rfl, g0⟩ := fe_tR_d h
    obtain ⟨rfl, hz⟩ := fe_t0_d g0
    exact zX79_show K l v0 M r hz
  have o1 : fs_OS (sX74_waiting FX79_show FX77_show FX78_show) 1 2 (fs_Con (fk_E s0 H0 oa D) l 1 ⟨"BoardMachine$Controls$Masked", "show", "()J"⟩ prog_6_method_2_code 1 (Option.some Jvm.ClassFile.FieldType.long)) := by
    intro As M r h
    obtain ⟨v0, t0, rfl, g0⟩ := fe_tR_d h
    obtain ⟨rfl, hz⟩ := fe_t0_d g0
    exact zX77_show K l v0 M r hz
  have o2 : fs_OS (sX74_waiting FX79_show FX77_show FX78_show) 2 2 (fs_Con (fk_E s0 H0 oa D) l 3 ⟨"BoardMachine$Controls$Status", "show", "()J"⟩ prog_10_method_7_code 1 (Option.some Jvm.ClassFile.FieldType.long)) := by
    intro As M r h
    obtain ⟨v0, t0, rfl, g0⟩ := fe_tR_d h
    obtain ⟨rfl, hz⟩ := fe_t0_d g0
    exact zX78_show K l v0 M r hz
  refine fs_method (own := "BoardMachine$Controls$ControlUnit") rfl (by decide) K.2.1 (by rw [fe_slen]; exact (Nat.le_of_ble_eq_true rfl)) (mX74_waiting a0 M r h) (hX74_waiting) 0 rfl (L0 := [(0, .ref a0)]) (fun E => fe_args_e E [.ref a0] 0) ((eX74_waiting FX74_waiting_0 a0 M).trans h) (fe_kl_k r) (fun H hR => fs_nr_o (by decide) (by decide)) ?_
  intro p e s m args below meth c Q C hnm
  have hw : s0.WarmedH s.vm := C.2.2.2.2.1
  refine fe_all C fk_hwr cX74_waiting [1, 4, 8, 11] (by decide +kernel) (fe_fil (cps := [(1, 4, .getfield 130072626), (4, 7, .invokevirtual 6306831), (8, 11, .getfield 125878322), (11, 14, .invokeinterface 0 0)]) (by decide +kernel) ?_)
  refine fs_c1 (fs_getf (pc := 1) (n := 130072626) (idx := 59) (ref := "BoardMachine$Controls$ControlUnit") (O := "BoardMachine$Controls$ControlUnit") (name := "pending") (desc := "LBoardMachine$Controls$Pending;") C (by decide +kernel) (Or.inl (kw K hw q1864)) (fun _ h => h) (Nat.le_of_ble_eq_true rfl) (Nat.le_of_ble_eq_true rfl) (fs_one (⟨_, ff_12_31 s0 H0 oa D⟩))) ?_
  refine fs_c1 (fs_inv_virtual (pc := 4) (n := 6306831) C (Nat.le_of_ble_eq_true rfl) (Nat.le_of_ble_eq_true rfl) (fs_lk_virtual (idx := 190) (y := ⟨"BoardMachine$Controls$Pending", "show", "()J"⟩) (bytes := prog_7_method_2_code) (maxL := 1) (rt := (Option.some Jvm.ClassFile.FieldType.long)) (d := 1) C (Nat.le_of_ble_eq_true rfl) (Nat.le_of_ble_eq_true rfl) (by decide +kernel) (kw K hw q2893) (kw K hw q390) (kw K hw q2891) (Or.inl (kw K hw q2890)) ⟨by decide, by decide⟩ rfl (Nat.le_of_ble_eq_true rfl) (Nat.le_of_ble_eq_true rfl) (fs_one (⟨_, rfl, kw K hw q2892⟩))) fs_con_mono o0) ?_
  refine fs_c1 (fs_getf (pc := 8) (n := 125878322) (idx := 53) (ref := "BoardMachine$Controls$ControlUnit") (O := "BoardMachine$Controls$ControlUnit") (name := "enabled") (desc := "LBoardMachine$Controls$Masked;") C (by decide +kernel) (Or.inl (kw K hw q1862)) (fun _ h => h) (Nat.le_of_ble_eq_true rfl) (Nat.le_of_ble_eq_true rfl) (fs_one (⟨_, ff_12_30 s0 H0 oa D⟩))) ?_
  refine fs_c1 (fs_inv_table (pc := 11) (nx := 14) (i := 0) (k := 0) C rfl (List.forall_mem_cons.mpr ⟨⟨(Nat.le_of_ble_eq_true rfl), (Nat.le_of_ble_eq_true rfl), _, fs_lk_up (idx := 137) (x := ⟨"BoardMachine$Controls$Masked", "show", "()J"⟩) (owner := "BoardMachine$Controls$Masked") (y := ⟨"BoardMachine$Controls$Masked", "show", "()J"⟩) (bytes := prog_6_method_2_code) (maxL := 1) (rt := (Option.some Jvm.ClassFile.FieldType.long)) (d := 1) C (Nat.le_of_ble_eq_true rfl) (Nat.le_of_ble_eq_true rfl) (by decide +kernel) (kw K hw q2913) (kw K hw q388) (kw K hw q2895) (kw K hw q2894) (kw K hw q2897) (va_Decl.of (kw (args := args) K hw q2895) (kw K hw q2913)) ⟨by decide, by decide⟩ rfl (Nat.le_of_ble_eq_true rfl) (Nat.le_of_ble_eq_true rfl) (fs_one (⟨_, rfl, kw K hw q2896⟩)), fs_con_mono, o1⟩, List.forall_mem_cons.mpr ⟨⟨(Nat.le_of_ble_eq_true rfl), (Nat.le_of_ble_eq_true rfl), _, fs_lk_up (idx := 137) (x := ⟨"BoardMachine$Controls$Masked", "show", "()J"⟩) (owner := "BoardMachine$Controls$Masked") (y := ⟨"BoardMachine$Controls$Pending", "show", "()J"⟩) (bytes := prog_7_method_2_code) (maxL := 1) (rt := (Option.some Jvm.ClassFile.FieldType.long)) (d := 1) C (Nat.le_of_ble_eq_true rfl) (Nat.le_of_ble_eq_true rfl) (by decide +kernel) (kw K hw q2893) (kw K hw q390) (kw K hw q2891) (kw K hw q2894) (kw K hw q2897) (va_Decl.of (kw (args := args) K hw q2895) (kw K hw q2913)) ⟨by decide, by decide⟩ rfl (Nat.le_of_ble_eq_true rfl) (Nat.le_of_ble_eq_true rfl) (fs_one (⟨_, rfl, kw K hw q2898⟩)), fs_con_mono, o0⟩, List.forall_mem_cons.mpr ⟨⟨(Nat.le_of_ble_eq_true rfl), (Nat.le_of_ble_eq_true rfl), _, fs_lk_up (idx := 137) (x := ⟨"BoardMachine$Controls$Masked", "show", "()J"⟩) (owner := "BoardMachine$Controls$Masked") (y := ⟨"BoardMachine$Controls$Status", "show", "()J"⟩) (bytes := prog_10_method_7_code) (maxL := 1) (rt := (Option.some Jvm.ClassFile.FieldType.long)) (d := 3) C (Nat.le_of_ble_eq_true rfl) (Nat.le_of_ble_eq_true rfl) (by decide +kernel) (kw K hw q2901) (kw K hw q389) (kw K hw q2900) (kw K hw q2894) (kw K hw q2897) (va_Decl.of (kw (args := args) K hw q2895) (kw K hw q2913)) ⟨by decide, by decide⟩ rfl (Nat.le_of_ble_eq_true rfl) (Nat.le_of_ble_eq_true rfl) (fs_one (⟨_, rfl, kw K hw q2899⟩)), fs_con_mono, o2⟩, List.forall_mem_cons.mpr ⟨⟨(Nat.le_of_ble_eq_true rfl), (Nat.le_of_ble_eq_true rfl), _, fs_lk_up (idx := 137) (x := ⟨"BoardMachine$Controls$Masked", "show", "()J"⟩) (owner := "BoardMachine$Controls$Masked") (y := ⟨"BoardMachine$Controls$Masked", "show", "()J"⟩) (bytes := prog_6_method_2_code) (maxL := 1) (rt := (Option.some Jvm.ClassFile.FieldType.long)) (d := 1) C (Nat.le_of_ble_eq_true rfl) (Nat.le_of_ble_eq_true rfl) (by decide +kernel) (kw K hw q2913) (kw K hw q388) (kw K hw q2895) (kw K hw q2894) (kw K hw q2897) (va_Decl.of (kw (args := args) K hw q2895) (kw K hw q2913)) ⟨by decide, by decide⟩ rfl (Nat.le_of_ble_eq_true rfl) (Nat.le_of_ble_eq_true rfl) (fs_one (⟨_, rfl, kw K hw q2912⟩)), fs_con_mono, o1⟩, List.forall_mem_nil _⟩⟩⟩⟩)) ?_
  exact fs_c0
theorem hX78_has : fe_H (sX78_has) cX78_has [0, 18] fe_ki [] 20 (fun _ => dX78_has FX78_has_0 FX78_has_18) := by
  intro j pc L st M r hc h
  rcases fe_mem_c hc with rfl | hc
  · obtain ⟨w0, m0, h⟩ := fe_lR_d h
    obtain ⟨w1, m1, h⟩ := fe_lI_d h
    obtain ⟨rfl, hz⟩ := fe_t0_d h
    exact ⟨[(0, .ref w0), (1, .int w1)], (fe_cs m0 (fe_cs m1 fe_nl)), Or.inr ((bX78_has_0 FX78_has_0 FX78_has_18 w0 w1 M).symm.trans hz)⟩
  rcases fe_mem_c hc with rfl | hc
  · obtain ⟨s0, t0, rfl, g0⟩ := fe_tI_d h
    obtain ⟨rfl, hz⟩ := fe_t0_d g0
    exact ⟨[], fe_nl, Or.inr ((bX78_has_18 FX78_has_0 FX78_has_18 s0 M).symm.trans hz)⟩
  exact fe_mem_0 hc
theorem vX78_has : fe_SB (sX78_has) := by
  refine ⟨?_, ?_, ?_, ?_⟩
  · intro i As M r h
    exact fe_no h
  · intro i As M r h
    exact fe_no h
  · intro i As M r h
    exact fe_no h
  · intro i As M r h
    exact fe_no h
theorem eX78_has (g0 : Nat → Int32 → FM → Option (Int32 × FM)) (g18 : Int32 → FM → Option (Int32 × FM)) (a0 : Nat) (a1 : Int32) (M : FM) : dX78_has g0 g18 0 [(0, .ref a0), (1, .int a1)] [] M = g0 a0 a1 M := by rfl
theorem mX78_has (a0 : Nat) (a1 : Int32) (M : FM) (r : Int32 × FM) (h : FX78_has a0 a1 M = some r) : fm_nx M ≤ fm_nx r.2 ∧ fm_ns M ≤ fm_ns r.2 :=
  fe_mono (L0 := [(0, .ref a0), (1, .int a1)]) (vX78_has) (by decide +kernel) (hX78_has) (fe_ki_k r) 0 rfl ((eX78_has FX78_has_0 FX78_has_18 a0 a1 M).trans h)
theorem zX78_has {s0 : State} {H0 : Heap} {oa : Nat → Nat} {D : va_G} (K : fk s0 H0 oa D) (l : Launch) (a0 : Nat) (a1 : Int32) (M : FM) (r : Int32 × FM) (h : FX78_has a0 a1 M = some r) : fs_Con (fk_E s0 H0 oa D) l 1 ⟨"BoardMachine$Controls$Status", "has", "(I)Z"⟩ prog_10_method_2_code 2 (Option.some Jvm.ClassFile.FieldType.boolean) [.ref a0, .int a1] M (some (.int r.1)) r.2 := by
  refine fs_method (own := "BoardMachine$Controls$Status") rfl (by decide) K.2.1 (by rw [fe_slen]; exact (Nat.le_of_ble_eq_true rfl)) (mX78_has a0 a1 M r h) (hX78_has) 0 rfl (L0 := [(0, .ref a0), (1, .int a1)]) (fun E => fe_args_e E [.ref a0, .int a1] 0) ((eX78_has FX78_has_0 FX78_has_18 a0 a1 M).trans h) (fe_ki_k r) (fun H hR => fs_nr_o (by decide) (by decide)) ?_
  intro p e s m args below meth c Q C hnm
  have hw : s0.WarmedH s.vm := C.2.2.2.2.1
  refine fe_all C fk_hwr cX78_has [1] (by decide +kernel) (fe_fil (cps := [(1, 4, .getfield 172032065)]) (by decide +kernel) ?_)
  refine fs_c1 (fs_getf (pc := 1) (n := 172032065) (idx := 11) (ref := "BoardMachine$Controls$Status") (O := "BoardMachine$Controls$Masked") (name := "held") (desc := "J") C (by decide +kernel) (Or.inl (kw K hw q1719)) (fs_sameF (kw (args := args) K hw q1720)) (Nat.le_of_ble_eq_true rfl) (Nat.le_of_ble_eq_true rfl) (fs_one (⟨_, ff_16_41 s0 H0 oa D⟩))) ?_
  exact fs_c0
theorem hX74_first (n : Nat) : fe_H (sX74_first) cX74_first [0, 12] fe_ki [12] 34 (fun j => dX74_first (FX74_first_0 n (FX74_first_L12 n j)) (FX74_first_L12 n j)) := by
  intro j pc L st M r hc h
  rcases fe_mem_c hc with rfl | hc
  · obtain ⟨w0, m0, h⟩ := fe_lR_d h
    obtain ⟨w1, m1, h⟩ := fe_lL_d h
    obtain ⟨rfl, hz⟩ := fe_t0_d h
    exact ⟨[(0, .ref w0), (1, .long w1)], (fe_cs m0 (fe_cs m1 fe_nl)), Or.inr ((bX74_first_0 (FX74_first_0 n (FX74_first_L12 n j)) (FX74_first_L12 n j) w0 w1 M).symm.trans hz)⟩
  rcases fe_mem_c hc with rfl | hc
  · obtain ⟨w1, m1, h⟩ := fe_lL_d h
    obtain ⟨w3, m3, h⟩ := fe_lR_d h
    obtain ⟨w4, m4, h⟩ := fe_lI_d h
    obtain ⟨w5, m5, h⟩ := fe_lI_d h
    obtain ⟨rfl, hz⟩ := fe_t0_d h
    cases j with
    | zero => exact fe_no hz
    | succ j => exact ⟨[(1, .long w1), (3, .ref w3), (4, .int w4), (5, .int w5)], (fe_cs m1 (fe_cs m3 (fe_cs m4 (fe_cs m5 fe_nl)))), Or.inl ⟨j, rfl, (bX74_first_12 (FX74_first_0 n (FX74_first_L12 n j)) (FX74_first_L12 n j) w1 w3 w4 w5 M).symm.trans hz⟩⟩
  exact fe_mem_0 hc
theorem vX74_first (n : Nat) : fe_SB (sX74_first) := by
  refine ⟨?_, ?_, ?_, ?_⟩
  · intro i As M r h
    exact fe_no h
  · intro i As M r h
    exact fe_no h
  · intro i As M r h
    exact fe_no h
  · intro i As M r h
    exact fe_no h
theorem eX74_first (g0 : Nat → Int64 → FM → Option (Int32 × FM)) (k12 : Int64 → Nat → Int32 → Int32 → FM → Option (Int32 × FM)) (a0 : Nat) (a1 : Int64) (M : FM) : dX74_first g0 k12 0 [(0, .ref a0), (1, .long a1)] [] M = g0 a0 a1 M := by rfl
theorem mX74_first (n : Nat) (a0 : Nat) (a1 : Int64) (M : FM) (r : Int32 × FM) (h : FX74_first n a0 a1 M = some r) : fm_nx M ≤ fm_nx r.2 ∧ fm_ns M ≤ fm_ns r.2 :=
  fe_mono (L0 := [(0, .ref a0), (1, .long a1)]) (vX74_first n) (by decide +kernel) (hX74_first n) (fe_ki_k r) n rfl ((eX74_first (FX74_first_0 n (FX74_first_L12 n n)) (FX74_first_L12 n n) a0 a1 M).trans h)
theorem zX74_first {s0 : State} {H0 : Heap} {oa : Nat → Nat} {D : va_G} (K : fk s0 H0 oa D) (l : Launch) (n : Nat) (a0 : Nat) (a1 : Int64) (M : FM) (r : Int32 × FM) (h : FX74_first n a0 a1 M = some r) : fs_Con (fk_E s0 H0 oa D) l 1 ⟨"BoardMachine$Controls$ControlUnit", "first", "(J)I"⟩ prog_5_method_15_code 7 (Option.some Jvm.ClassFile.FieldType.int) [.ref a0, .long a1] M (some (.int r.1)) r.2 := by
  refine fs_method (own := "BoardMachine$Controls$ControlUnit") rfl (by decide) K.2.1 (by rw [fe_slen]; exact (Nat.le_of_ble_eq_true rfl)) (mX74_first n a0 a1 M r h) (hX74_first n) n rfl (L0 := [(0, .ref a0), (1, .long a1)]) (fun E => fe_args_e E [.ref a0, .long a1] 0) ((eX74_first (FX74_first_0 n (FX74_first_L12 n n)) (FX74_first_L12 n n) a0 a1 M).trans h) (fe_ki_k r) (fun H hR => fs_nr_o (by decide) (by decide)) ?_
  intro p e s m args below meth c Q C hnm
  have hw : s0.WarmedH s.vm := C.2.2.2.2.1
  refine fe_all C fk_hwr cX74_first [1] (by decide +kernel) (fe_fil (cps := [(1, 4, .getfield 100712498)]) (by decide +kernel) ?_)
  refine fs_c1 (fs_getf (pc := 1) (n := 100712498) (idx := 9) (ref := "BoardMachine$Controls$ControlUnit") (O := "BoardMachine$Controls$ControlUnit") (name := "order") (desc := "[I") C (by decide +kernel) (Or.inl (kw K hw q1850)) (fun _ h => h) (Nat.le_of_ble_eq_true rfl) (Nat.le_of_ble_eq_true rfl) (fs_one (⟨_, ff_12_24 s0 H0 oa D⟩))) ?_
  exact fs_c0
theorem hX74_taken (n : Nat) : fe_H (sX74_taken FX77_show FX79_show FX78_show FX78_has FX74_waiting (FX74_first n)) cX74_taken [0, 27, 32, 59, 63, 64, 88, 100, 115] fe_ki [] 64 (fun _ => dX74_taken (FX74_taken_0 n) (FX74_taken_27 n) (FX74_taken_32 n) (FX74_taken_59 n) (FX74_taken_63 n) (FX74_taken_64 n) (FX74_taken_88 n) (FX74_taken_100 n) (FX74_taken_115 n)) := by
  intro j pc L st M r hc h
  rcases fe_mem_c hc with rfl | hc
  · obtain ⟨w0, m0, h⟩ := fe_lR_d h
    obtain ⟨rfl, hz⟩ := fe_t0_d h
    exact ⟨[(0, .ref w0)], (fe_cs m0 fe_nl), Or.inr ((bX74_taken_0 FX77_show FX79_show FX78_show FX78_has FX74_waiting (FX74_first n) (FX74_taken_0 n ) (FX74_taken_27 n ) (FX74_taken_32 n ) (FX74_taken_59 n ) (FX74_taken_63 n ) (FX74_taken_64 n ) (FX74_taken_88 n ) (FX74_taken_100 n ) (FX74_taken_115 n ) w0 M).symm.trans hz)⟩
  rcases fe_mem_c hc with rfl | hc
  · obtain ⟨w0, m0, h⟩ := fe_lR_d h
    obtain ⟨w1, m1, h⟩ := fe_lL_d h
    obtain ⟨rfl, hz⟩ := fe_t0_d h
    exact ⟨[(0, .ref w0), (1, .long w1)], (fe_cs m0 (fe_cs m1 fe_nl)), Or.inr ((bX74_taken_27 FX77_show FX79_show FX78_show FX78_has FX74_waiting (FX74_first n) (FX74_taken_0 n ) (FX74_taken_27 n ) (FX74_taken_32 n ) (FX74_taken_59 n ) (FX74_taken_63 n ) (FX74_taken_64 n ) (FX74_taken_88 n ) (FX74_taken_100 n ) (FX74_taken_115 n ) w0 w1 M).symm.trans hz)⟩
  rcases fe_mem_c hc with rfl | hc
  · obtain ⟨w0, m0, h⟩ := fe_lR_d h
    obtain ⟨w1, m1, h⟩ := fe_lL_d h
    obtain ⟨s0, t0, rfl, g0⟩ := fe_tI_d h
    obtain ⟨rfl, hz⟩ := fe_t0_d g0
    exact ⟨[(0, .ref w0), (1, .long w1)], (fe_cs m0 (fe_cs m1 fe_nl)), Or.inr ((bX74_taken_32 FX77_show FX79_show FX78_show FX78_has FX74_waiting (FX74_first n) (FX74_taken_0 n ) (FX74_taken_27 n ) (FX74_taken_32 n ) (FX74_taken_59 n ) (FX74_taken_63 n ) (FX74_taken_64 n ) (FX74_taken_88 n ) (FX74_taken_100 n ) (FX74_taken_115 n ) w0 w1 s0 M).symm.trans hz)⟩
  rcases fe_mem_c hc with rfl | hc
  · obtain ⟨w0, m0, h⟩ := fe_lR_d h
    obtain ⟨w1, m1, h⟩ := fe_lL_d h
    obtain ⟨w3, m3, h⟩ := fe_lI_d h
    obtain ⟨rfl, hz⟩ := fe_t0_d h
    exact ⟨[(0, .ref w0), (1, .long w1), (3, .int w3)], (fe_cs m0 (fe_cs m1 (fe_cs m3 fe_nl))), Or.inr ((bX74_taken_59 FX77_show FX79_show FX78_show FX78_has FX74_waiting (FX74_first n) (FX74_taken_0 n ) (FX74_taken_27 n ) (FX74_taken_32 n ) (FX74_taken_59 n ) (FX74_taken_63 n ) (FX74_taken_64 n ) (FX74_taken_88 n ) (FX74_taken_100 n ) (FX74_taken_115 n ) w0 w1 w3 M).symm.trans hz)⟩
  rcases fe_mem_c hc with rfl | hc
  · obtain ⟨w0, m0, h⟩ := fe_lR_d h
    obtain ⟨w1, m1, h⟩ := fe_lL_d h
    obtain ⟨w3, m3, h⟩ := fe_lI_d h
    obtain ⟨rfl, hz⟩ := fe_t0_d h
    exact ⟨[(0, .ref w0), (1, .long w1), (3, .int w3)], (fe_cs m0 (fe_cs m1 (fe_cs m3 fe_nl))), Or.inr ((bX74_taken_63 FX77_show FX79_show FX78_show FX78_has FX74_waiting (FX74_first n) (FX74_taken_0 n ) (FX74_taken_27 n ) (FX74_taken_32 n ) (FX74_taken_59 n ) (FX74_taken_63 n ) (FX74_taken_64 n ) (FX74_taken_88 n ) (FX74_taken_100 n ) (FX74_taken_115 n ) w0 w1 w3 M).symm.trans hz)⟩
  rcases fe_mem_c hc with rfl | hc
  · obtain ⟨w0, m0, h⟩ := fe_lR_d h
    obtain ⟨w1, m1, h⟩ := fe_lL_d h
    obtain ⟨w3, m3, h⟩ := fe_lI_d h
    obtain ⟨s0, t0, rfl, g0⟩ := fe_tI_d h
    obtain ⟨rfl, hz⟩ := fe_t0_d g0
    exact ⟨[(0, .ref w0), (1, .long w1), (3, .int w3)], (fe_cs m0 (fe_cs m1 (fe_cs m3 fe_nl))), Or.inr ((bX74_taken_64 FX77_show FX79_show FX78_show FX78_has FX74_waiting (FX74_first n) (FX74_taken_0 n ) (FX74_taken_27 n ) (FX74_taken_32 n ) (FX74_taken_59 n ) (FX74_taken_63 n ) (FX74_taken_64 n ) (FX74_taken_88 n ) (FX74_taken_100 n ) (FX74_taken_115 n ) w0 w1 w3 s0 M).symm.trans hz)⟩
  rcases fe_mem_c hc with rfl | hc
  · obtain ⟨w0, m0, h⟩ := fe_lR_d h
    obtain ⟨w1, m1, h⟩ := fe_lL_d h
    obtain ⟨w4, m4, h⟩ := fe_lI_d h
    obtain ⟨s0, t0, rfl, g0⟩ := fe_tI_d h
    obtain ⟨rfl, hz⟩ := fe_t0_d g0
    exact ⟨[(0, .ref w0), (1, .long w1), (4, .int w4)], (fe_cs m0 (fe_cs m1 (fe_cs m4 fe_nl))), Or.inr ((bX74_taken_88 FX77_show FX79_show FX78_show FX78_has FX74_waiting (FX74_first n) (FX74_taken_0 n ) (FX74_taken_27 n ) (FX74_taken_32 n ) (FX74_taken_59 n ) (FX74_taken_63 n ) (FX74_taken_64 n ) (FX74_taken_88 n ) (FX74_taken_100 n ) (FX74_taken_115 n ) w0 w1 w4 s0 M).symm.trans hz)⟩
  rcases fe_mem_c hc with rfl | hc
  · obtain ⟨w5, m5, h⟩ := fe_lI_d h
    obtain ⟨rfl, hz⟩ := fe_t0_d h
    exact ⟨[(5, .int w5)], (fe_cs m5 fe_nl), Or.inr ((bX74_taken_100 FX77_show FX79_show FX78_show FX78_has FX74_waiting (FX74_first n) (FX74_taken_0 n ) (FX74_taken_27 n ) (FX74_taken_32 n ) (FX74_taken_59 n ) (FX74_taken_63 n ) (FX74_taken_64 n ) (FX74_taken_88 n ) (FX74_taken_100 n ) (FX74_taken_115 n ) w5 M).symm.trans hz)⟩
  rcases fe_mem_c hc with rfl | hc
  · obtain ⟨s0, t0, rfl, g0⟩ := fe_tI_d h
    obtain ⟨rfl, hz⟩ := fe_t0_d g0
    exact ⟨[], fe_nl, Or.inr ((bX74_taken_115 FX77_show FX79_show FX78_show FX78_has FX74_waiting (FX74_first n) (FX74_taken_0 n ) (FX74_taken_27 n ) (FX74_taken_32 n ) (FX74_taken_59 n ) (FX74_taken_63 n ) (FX74_taken_64 n ) (FX74_taken_88 n ) (FX74_taken_100 n ) (FX74_taken_115 n ) s0 M).symm.trans hz)⟩
  exact fe_mem_0 hc
theorem vX74_taken (n : Nat) : fe_SB (sX74_taken FX77_show FX79_show FX78_show FX78_has FX74_waiting (FX74_first n)) := by
  refine ⟨?_, ?_, ?_, ?_⟩
  · intro i As M r h
    exact fe_no h
  · intro i As M r h
    rcases fe_bc h with h | h
    · obtain ⟨v0, t0, rfl, g0⟩ := fe_tR_d h
      obtain ⟨v1, t1, rfl, g1⟩ := fe_tI_d g0
      obtain ⟨rfl, hz⟩ := fe_t0_d g1
      exact mX78_has v0 v1 M r hz
    rcases fe_bc h with h | h
    · obtain ⟨v0, t0, rfl, g0⟩ := fe_tR_d h
      obtain ⟨v1, t1, rfl, g1⟩ := fe_tL_d g0
      obtain ⟨rfl, hz⟩ := fe_t0_d g1
      exact mX74_first n v0 v1 M r hz
    exact fe_no h
  · intro i As M r h
    rcases fe_bc h with h | h
    · obtain ⟨v0, t0, rfl, g0⟩ := fe_tR_d h
      obtain ⟨rfl, hz⟩ := fe_t0_d g0
      exact mX77_show v0 M r hz
    rcases fe_bc h with h | h
    · obtain ⟨v0, t0, rfl, g0⟩ := fe_tR_d h
      obtain ⟨rfl, hz⟩ := fe_t0_d g0
      exact mX79_show v0 M r hz
    rcases fe_bc h with h | h
    · obtain ⟨v0, t0, rfl, g0⟩ := fe_tR_d h
      obtain ⟨rfl, hz⟩ := fe_t0_d g0
      exact mX78_show v0 M r hz
    rcases fe_bc h with h | h
    · obtain ⟨v0, t0, rfl, g0⟩ := fe_tR_d h
      obtain ⟨rfl, hz⟩ := fe_t0_d g0
      exact mX74_waiting v0 M r hz
    exact fe_no h
  · intro i As M r h
    exact fe_no h
theorem eX74_taken (g0 : Nat → FM → Option (Int32 × FM)) (g27 : Nat → Int64 → FM → Option (Int32 × FM)) (g32 : Nat → Int64 → Int32 → FM → Option (Int32 × FM)) (g59 : Nat → Int64 → Int32 → FM → Option (Int32 × FM)) (g63 : Nat → Int64 → Int32 → FM → Option (Int32 × FM)) (g64 : Nat → Int64 → Int32 → Int32 → FM → Option (Int32 × FM)) (g88 : Nat → Int64 → Int32 → Int32 → FM → Option (Int32 × FM)) (g100 : Int32 → FM → Option (Int32 × FM)) (g115 : Int32 → FM → Option (Int32 × FM)) (a0 : Nat) (M : FM) : dX74_taken g0 g27 g32 g59 g63 g64 g88 g100 g115 0 [(0, .ref a0)] [] M = g0 a0 M := by rfl
theorem mX74_taken (n : Nat) (a0 : Nat) (M : FM) (r : Int32 × FM) (h : FX74_taken n a0 M = some r) : fm_nx M ≤ fm_nx r.2 ∧ fm_ns M ≤ fm_ns r.2 :=
  fe_mono (L0 := [(0, .ref a0)]) (vX74_taken n) (by decide +kernel) (hX74_taken n) (fe_ki_k r) 0 rfl ((eX74_taken (FX74_taken_0 n ) (FX74_taken_27 n ) (FX74_taken_32 n ) (FX74_taken_59 n ) (FX74_taken_63 n ) (FX74_taken_64 n ) (FX74_taken_88 n ) (FX74_taken_100 n ) (FX74_taken_115 n ) a0 M).trans h)
theorem zX74_taken {s0 : State} {H0 : Heap} {oa : Nat → Nat} {D : va_G} (K : fk s0 H0 oa D) (l : Launch) (n : Nat) (a0 : Nat) (M : FM) (r : Int32 × FM) (h : FX74_taken n a0 M = some r) : fs_Con (fk_E s0 H0 oa D) l 5 ⟨"BoardMachine$Controls$ControlUnit", "taken", "()I"⟩ prog_5_method_16_code 6 (Option.some Jvm.ClassFile.FieldType.int) [.ref a0] M (some (.int r.1)) r.2 := by
  have o0 : fs_OS (sX74_taken FX77_show FX79_show FX78_show FX78_has FX74_waiting (FX74_first n)) 0 2 (fs_Con (fk_E s0 H0 oa D) l 1 ⟨"BoardMachine$Controls$Masked", "show", "()J"⟩ prog_6_method_2_code 1 (Option.some Jvm.ClassFile.FieldType.long)) := by
    intro As M r h
    obtain ⟨v0, t0, rfl, g0⟩ := fe_tR_d h
    obtain ⟨rfl, hz⟩ := fe_t0_d g0
    exact zX77_show K l v0 M r hz
  have o1 : fs_OS (sX74_taken FX77_show FX79_show FX78_show FX78_has FX74_waiting (FX74_first n)) 1 2 (fs_Con (fk_E s0 H0 oa D) l 1 ⟨"BoardMachine$Controls$Pending", "show", "()J"⟩ prog_7_method_2_code 1 (Option.some Jvm.ClassFile.FieldType.long)) := by
    intro As M r h
    obtain ⟨v0, t0, rfl, g0⟩ := fe_tR_d h
    obtain ⟨rfl, hz⟩ := fe_t0_d g0
    exact zX79_show K l v0 M r hz
  have o2 : fs_OS (sX74_taken FX77_show FX79_show FX78_show FX78_has FX74_waiting (FX74_first n)) 2 2 (fs_Con (fk_E s0 H0 oa D) l 3 ⟨"BoardMachine$Controls$Status", "show", "()J"⟩ prog_10_method_7_code 1 (Option.some Jvm.ClassFile.FieldType.long)) := by
    intro As M r h
    obtain ⟨v0, t0, rfl, g0⟩ := fe_tR_d h
    obtain ⟨rfl, hz⟩ := fe_t0_d g0
    exact zX78_show K l v0 M r hz
  have o3 : fs_OS (sX74_taken FX77_show FX79_show FX78_show FX78_has FX74_waiting (FX74_first n)) 3 1 (fs_Con (fk_E s0 H0 oa D) l 1 ⟨"BoardMachine$Controls$Status", "has", "(I)Z"⟩ prog_10_method_2_code 2 (Option.some Jvm.ClassFile.FieldType.boolean)) := by
    intro As M r h
    obtain ⟨v0, t0, rfl, g0⟩ := fe_tR_d h
    obtain ⟨v1, t1, rfl, g1⟩ := fe_tI_d g0
    obtain ⟨rfl, hz⟩ := fe_t0_d g1
    exact zX78_has K l v0 v1 M r hz
  have o4 : fs_OS (sX74_taken FX77_show FX79_show FX78_show FX78_has FX74_waiting (FX74_first n)) 4 2 (fs_Con (fk_E s0 H0 oa D) l 4 ⟨"BoardMachine$Controls$ControlUnit", "waiting", "()J"⟩ prog_5_method_14_code 1 (Option.some Jvm.ClassFile.FieldType.long)) := by
    intro As M r h
    obtain ⟨v0, t0, rfl, g0⟩ := fe_tR_d h
    obtain ⟨rfl, hz⟩ := fe_t0_d g0
    exact zX74_waiting K l v0 M r hz
  have o5 : fs_OS (sX74_taken FX77_show FX79_show FX78_show FX78_has FX74_waiting (FX74_first n)) 5 1 (fs_Con (fk_E s0 H0 oa D) l 1 ⟨"BoardMachine$Controls$ControlUnit", "first", "(J)I"⟩ prog_5_method_15_code 7 (Option.some Jvm.ClassFile.FieldType.int)) := by
    intro As M r h
    obtain ⟨v0, t0, rfl, g0⟩ := fe_tR_d h
    obtain ⟨v1, t1, rfl, g1⟩ := fe_tL_d g0
    obtain ⟨rfl, hz⟩ := fe_t0_d g1
    exact zX74_first K l n v0 v1 M r hz
  refine fs_method (own := "BoardMachine$Controls$ControlUnit") rfl (by decide) K.2.1 (by rw [fe_slen]; exact (Nat.le_of_ble_eq_true rfl)) (mX74_taken n a0 M r h) (hX74_taken n) 0 rfl (L0 := [(0, .ref a0)]) (fun E => fe_args_e E [.ref a0] 0) ((eX74_taken (FX74_taken_0 n ) (FX74_taken_27 n ) (FX74_taken_32 n ) (FX74_taken_59 n ) (FX74_taken_63 n ) (FX74_taken_64 n ) (FX74_taken_88 n ) (FX74_taken_100 n ) (FX74_taken_115 n ) a0 M).trans h) (fe_ki_k r) (fun H hR => fs_nr_o (by decide) (by decide)) ?_
  intro p e s m args below meth c Q C hnm
  have hw : s0.WarmedH s.vm := C.2.2.2.2.1
  refine fe_all C fk_hwr cX74_taken [1, 4, 9, 17, 21, 34, 41, 49, 53, 72, 76, 81, 107, 112] (by decide +kernel) (fe_fil (cps := [(1, 4, .getfield 121684018), (4, 7, .invokeinterface 0 0), (9, 12, .getfield 155238448), (17, 20, .getfield 113295410), (21, 24, .invokevirtual 210780176), (34, 37, .getfield 155238448), (41, 44, .getfield 155238448), (49, 52, .getfield 113295410), (53, 56, .invokevirtual 210780176), (72, 75, .invokevirtual 274739212), (76, 79, .jsr_w (-1)), (81, 84, .invokevirtual 344993804), (107, 110, .invokevirtual 274739212), (112, 115, .invokevirtual 344993804)]) (by decide +kernel) ?_)
  refine fs_c1 (fs_getf (pc := 1) (n := 121684018) (idx := 48) (ref := "BoardMachine$Controls$ControlUnit") (O := "BoardMachine$Controls$ControlUnit") (name := "interrupts") (desc := "LBoardMachine$Controls$Masked;") C (by decide +kernel) (Or.inl (kw K hw q1860)) (fun _ h => h) (Nat.le_of_ble_eq_true rfl) (Nat.le_of_ble_eq_true rfl) (fs_one (⟨_, ff_12_29 s0 H0 oa D⟩))) ?_
  refine fs_c1 (fs_inv_table (pc := 4) (nx := 7) (i := 0) (k := 0) C rfl (List.forall_mem_cons.mpr ⟨⟨(Nat.le_of_ble_eq_true rfl), (Nat.le_of_ble_eq_true rfl), _, fs_lk_up (idx := 137) (x := ⟨"BoardMachine$Controls$Masked", "show", "()J"⟩) (owner := "BoardMachine$Controls$Masked") (y := ⟨"BoardMachine$Controls$Masked", "show", "()J"⟩) (bytes := prog_6_method_2_code) (maxL := 1) (rt := (Option.some Jvm.ClassFile.FieldType.long)) (d := 1) C (Nat.le_of_ble_eq_true rfl) (Nat.le_of_ble_eq_true rfl) (by decide +kernel) (kw K hw q2913) (kw K hw q388) (kw K hw q2895) (kw K hw q2894) (kw K hw q2897) (va_Decl.of (kw (args := args) K hw q2895) (kw K hw q2913)) ⟨by decide, by decide⟩ rfl (Nat.le_of_ble_eq_true rfl) (Nat.le_of_ble_eq_true rfl) (fs_one (⟨_, rfl, kw K hw q2896⟩)), fs_con_mono, o0⟩, List.forall_mem_cons.mpr ⟨⟨(Nat.le_of_ble_eq_true rfl), (Nat.le_of_ble_eq_true rfl), _, fs_lk_up (idx := 137) (x := ⟨"BoardMachine$Controls$Masked", "show", "()J"⟩) (owner := "BoardMachine$Controls$Masked") (y := ⟨"BoardMachine$Controls$Pending", "show", "()J"⟩) (bytes := prog_7_method_2_code) (maxL := 1) (rt := (Option.some Jvm.ClassFile.FieldType.long)) (d := 1) C (Nat.le_of_ble_eq_true rfl) (Nat.le_of_ble_eq_true rfl) (by decide +kernel) (kw K hw q2893) (kw K hw q390) (kw K hw q2891) (kw K hw q2894) (kw K hw q2897) (va_Decl.of (kw (args := args) K hw q2895) (kw K hw q2913)) ⟨by decide, by decide⟩ rfl (Nat.le_of_ble_eq_true rfl) (Nat.le_of_ble_eq_true rfl) (fs_one (⟨_, rfl, kw K hw q2898⟩)), fs_con_mono, o1⟩, List.forall_mem_cons.mpr ⟨⟨(Nat.le_of_ble_eq_true rfl), (Nat.le_of_ble_eq_true rfl), _, fs_lk_up (idx := 137) (x := ⟨"BoardMachine$Controls$Masked", "show", "()J"⟩) (owner := "BoardMachine$Controls$Masked") (y := ⟨"BoardMachine$Controls$Status", "show", "()J"⟩) (bytes := prog_10_method_7_code) (maxL := 1) (rt := (Option.some Jvm.ClassFile.FieldType.long)) (d := 3) C (Nat.le_of_ble_eq_true rfl) (Nat.le_of_ble_eq_true rfl) (by decide +kernel) (kw K hw q2901) (kw K hw q389) (kw K hw q2900) (kw K hw q2894) (kw K hw q2897) (va_Decl.of (kw (args := args) K hw q2895) (kw K hw q2913)) ⟨by decide, by decide⟩ rfl (Nat.le_of_ble_eq_true rfl) (Nat.le_of_ble_eq_true rfl) (fs_one (⟨_, rfl, kw K hw q2899⟩)), fs_con_mono, o2⟩, List.forall_mem_cons.mpr ⟨⟨(Nat.le_of_ble_eq_true rfl), (Nat.le_of_ble_eq_true rfl), _, fs_lk_up (idx := 137) (x := ⟨"BoardMachine$Controls$Masked", "show", "()J"⟩) (owner := "BoardMachine$Controls$Masked") (y := ⟨"BoardMachine$Controls$Masked", "show", "()J"⟩) (bytes := prog_6_method_2_code) (maxL := 1) (rt := (Option.some Jvm.ClassFile.FieldType.long)) (d := 1) C (Nat.le_of_ble_eq_true rfl) (Nat.le_of_ble_eq_true rfl) (by decide +kernel) (kw K hw q2913) (kw K hw q388) (kw K hw q2895) (kw K hw q2894) (kw K hw q2897) (va_Decl.of (kw (args := args) K hw q2895) (kw K hw q2913)) ⟨by decide, by decide⟩ rfl (Nat.le_of_ble_eq_true rfl) (Nat.le_of_ble_eq_true rfl) (fs_one (⟨_, rfl, kw K hw q2912⟩)), fs_con_mono, o0⟩, List.forall_mem_nil _⟩⟩⟩⟩)) ?_
  refine fs_c1 (fs_getf (pc := 9) (n := 155238448) (idx := 84) (ref := "BoardMachine$Controls$ControlUnit") (O := "BoardMachine$Controls$ControlUnit") (name := "mode") (desc := "I") C (by decide +kernel) (Or.inl (kw K hw q1877)) (fun _ h => h) (Nat.le_of_ble_eq_true rfl) (Nat.le_of_ble_eq_true rfl) (fs_one (⟨_, ff_12_37 s0 H0 oa D⟩))) ?_
  refine fs_c1 (fs_getf (pc := 17) (n := 113295410) (idx := 33) (ref := "BoardMachine$Controls$ControlUnit") (O := "BoardMachine$Controls$ControlUnit") (name := "status") (desc := "LBoardMachine$Controls$Status;") C (by decide +kernel) (Or.inl (kw K hw q1856)) (fun _ h => h) (Nat.le_of_ble_eq_true rfl) (Nat.le_of_ble_eq_true rfl) (fs_one (⟨_, ff_12_27 s0 H0 oa D⟩))) ?_
  refine fs_c1 (fs_inv_virtual (pc := 21) (n := 210780176) C (Nat.le_of_ble_eq_true rfl) (Nat.le_of_ble_eq_true rfl) (fs_lk_virtual (idx := 141) (y := ⟨"BoardMachine$Controls$Status", "has", "(I)Z"⟩) (bytes := prog_10_method_2_code) (maxL := 2) (rt := (Option.some Jvm.ClassFile.FieldType.boolean)) (d := 1) C (Nat.le_of_ble_eq_true rfl) (Nat.le_of_ble_eq_true rfl) (by decide +kernel) (kw K hw q2921) (kw K hw q389) (kw K hw q2919) (Or.inl (kw K hw q2918)) ⟨by decide, by decide⟩ rfl (Nat.le_of_ble_eq_true rfl) (Nat.le_of_ble_eq_true rfl) (fs_one (⟨_, rfl, kw K hw q2920⟩))) fs_con_mono o3) ?_
  refine fs_c1 (fs_getf (pc := 34) (n := 155238448) (idx := 84) (ref := "BoardMachine$Controls$ControlUnit") (O := "BoardMachine$Controls$ControlUnit") (name := "mode") (desc := "I") C (by decide +kernel) (Or.inl (kw K hw q1877)) (fun _ h => h) (Nat.le_of_ble_eq_true rfl) (Nat.le_of_ble_eq_true rfl) (fs_one (⟨_, ff_12_37 s0 H0 oa D⟩))) ?_
  refine fs_c1 (fs_getf (pc := 41) (n := 155238448) (idx := 84) (ref := "BoardMachine$Controls$ControlUnit") (O := "BoardMachine$Controls$ControlUnit") (name := "mode") (desc := "I") C (by decide +kernel) (Or.inl (kw K hw q1877)) (fun _ h => h) (Nat.le_of_ble_eq_true rfl) (Nat.le_of_ble_eq_true rfl) (fs_one (⟨_, ff_12_37 s0 H0 oa D⟩))) ?_
  refine fs_c1 (fs_getf (pc := 49) (n := 113295410) (idx := 33) (ref := "BoardMachine$Controls$ControlUnit") (O := "BoardMachine$Controls$ControlUnit") (name := "status") (desc := "LBoardMachine$Controls$Status;") C (by decide +kernel) (Or.inl (kw K hw q1856)) (fun _ h => h) (Nat.le_of_ble_eq_true rfl) (Nat.le_of_ble_eq_true rfl) (fs_one (⟨_, ff_12_27 s0 H0 oa D⟩))) ?_
  refine fs_c1 (fs_inv_virtual (pc := 53) (n := 210780176) C (Nat.le_of_ble_eq_true rfl) (Nat.le_of_ble_eq_true rfl) (fs_lk_virtual (idx := 141) (y := ⟨"BoardMachine$Controls$Status", "has", "(I)Z"⟩) (bytes := prog_10_method_2_code) (maxL := 2) (rt := (Option.some Jvm.ClassFile.FieldType.boolean)) (d := 1) C (Nat.le_of_ble_eq_true rfl) (Nat.le_of_ble_eq_true rfl) (by decide +kernel) (kw K hw q2921) (kw K hw q389) (kw K hw q2919) (Or.inl (kw K hw q2918)) ⟨by decide, by decide⟩ rfl (Nat.le_of_ble_eq_true rfl) (Nat.le_of_ble_eq_true rfl) (fs_one (⟨_, rfl, kw K hw q2920⟩))) fs_con_mono o3) ?_
  refine fs_c1 (fs_inv_virtual (pc := 72) (n := 274739212) C (Nat.le_of_ble_eq_true rfl) (Nat.le_of_ble_eq_true rfl) (fs_lk_virtual (idx := 191) (y := ⟨"BoardMachine$Controls$ControlUnit", "waiting", "()J"⟩) (bytes := prog_5_method_14_code) (maxL := 1) (rt := (Option.some Jvm.ClassFile.FieldType.long)) (d := 4) C (Nat.le_of_ble_eq_true rfl) (Nat.le_of_ble_eq_true rfl) (by decide +kernel) (kw K hw q2889) (kw K hw q385) (kw K hw q2888) (Or.inl (kw K hw q2922)) ⟨by decide, by decide⟩ rfl (Nat.le_of_ble_eq_true rfl) (Nat.le_of_ble_eq_true rfl) (fs_one (⟨_, rfl, kw K hw qs37⟩))) fs_con_mono o4) ?_
  refine fs_c1 (fs_ldcl (pc := 76) (idx := 73) (v := -1) C (by decide +kernel) (kw K hw q1798)) ?_
  refine fs_c1 (fs_inv_virtual (pc := 81) (n := 344993804) C (Nat.le_of_ble_eq_true rfl) (Nat.le_of_ble_eq_true rfl) (fs_lk_virtual (idx := 194) (y := ⟨"BoardMachine$Controls$ControlUnit", "first", "(J)I"⟩) (bytes := prog_5_method_15_code) (maxL := 7) (rt := (Option.some Jvm.ClassFile.FieldType.int)) (d := 1) C (Nat.le_of_ble_eq_true rfl) (Nat.le_of_ble_eq_true rfl) (by decide +kernel) (kw K hw q2926) (kw K hw q385) (kw K hw q2925) (Or.inl (kw K hw q2923)) ⟨by decide, by decide⟩ rfl (Nat.le_of_ble_eq_true rfl) (Nat.le_of_ble_eq_true rfl) (fs_one (⟨_, rfl, kw K hw qs38⟩))) fs_con_mono o5) ?_
  refine fs_c1 (fs_inv_virtual (pc := 107) (n := 274739212) C (Nat.le_of_ble_eq_true rfl) (Nat.le_of_ble_eq_true rfl) (fs_lk_virtual (idx := 191) (y := ⟨"BoardMachine$Controls$ControlUnit", "waiting", "()J"⟩) (bytes := prog_5_method_14_code) (maxL := 1) (rt := (Option.some Jvm.ClassFile.FieldType.long)) (d := 4) C (Nat.le_of_ble_eq_true rfl) (Nat.le_of_ble_eq_true rfl) (by decide +kernel) (kw K hw q2889) (kw K hw q385) (kw K hw q2888) (Or.inl (kw K hw q2922)) ⟨by decide, by decide⟩ rfl (Nat.le_of_ble_eq_true rfl) (Nat.le_of_ble_eq_true rfl) (fs_one (⟨_, rfl, kw K hw qs37⟩))) fs_con_mono o4) ?_
  refine fs_c1 (fs_inv_virtual (pc := 112) (n := 344993804) C (Nat.le_of_ble_eq_true rfl) (Nat.le_of_ble_eq_true rfl) (fs_lk_virtual (idx := 194) (y := ⟨"BoardMachine$Controls$ControlUnit", "first", "(J)I"⟩) (bytes := prog_5_method_15_code) (maxL := 7) (rt := (Option.some Jvm.ClassFile.FieldType.int)) (d := 1) C (Nat.le_of_ble_eq_true rfl) (Nat.le_of_ble_eq_true rfl) (by decide +kernel) (kw K hw q2926) (kw K hw q385) (kw K hw q2925) (Or.inl (kw K hw q2923)) ⟨by decide, by decide⟩ rfl (Nat.le_of_ble_eq_true rfl) (Nat.le_of_ble_eq_true rfl) (fs_one (⟨_, rfl, kw K hw qs38⟩))) fs_con_mono o5) ?_
  exact fs_c0
theorem hX46_counter : fe_H (sX46_counter) cX46_counter [0] fe_kl [] 20 (fun _ => dX46_counter FX46_counter_0) := by
  intro j pc L st M r hc h
  rcases fe_mem_c hc with rfl | hc
  · obtain ⟨w0, m0, h⟩ := fe_lR_d h
    obtain ⟨rfl, hz⟩ := fe_t0_d h
    exact ⟨[(0, .ref w0)], (fe_cs m0 fe_nl), Or.inr ((bX46_counter_0 FX46_counter_0 w0 M).symm.trans hz)⟩
  exact fe_mem_0 hc
theorem vX46_counter : fe_SB (sX46_counter) := by
  refine ⟨?_, ?_, ?_, ?_⟩
  · intro i As M r h
    exact fe_no h
  · intro i As M r h
    exact fe_no h
  · intro i As M r h
    exact fe_no h
  · intro i As M r h
    exact fe_no h
theorem eX46_counter (g0 : Nat → FM → Option (Int64 × FM)) (a0 : Nat) (M : FM) : dX46_counter g0 0 [(0, .ref a0)] [] M = g0 a0 M := by rfl
theorem mX46_counter (a0 : Nat) (M : FM) (r : Int64 × FM) (h : FX46_counter a0 M = some r) : fm_nx M ≤ fm_nx r.2 ∧ fm_ns M ≤ fm_ns r.2 :=
  fe_mono (L0 := [(0, .ref a0)]) (vX46_counter) (by decide +kernel) (hX46_counter) (fe_kl_k r) 0 rfl ((eX46_counter FX46_counter_0 a0 M).trans h)
theorem zX46_counter {s0 : State} {H0 : Heap} {oa : Nat → Nat} {D : va_G} (K : fk s0 H0 oa D) (l : Launch) (a0 : Nat) (M : FM) (r : Int64 × FM) (h : FX46_counter a0 M = some r) : fs_Con (fk_E s0 H0 oa D) l 1 ⟨"BoardMachine$Processor", "counter", "()J"⟩ prog_86_method_6_code 1 (Option.some Jvm.ClassFile.FieldType.long) [.ref a0] M (some (.long r.1)) r.2 := by
  refine fs_method (own := "BoardMachine$Processor") rfl (by decide) K.2.1 (by rw [fe_slen]; exact (Nat.le_of_ble_eq_true rfl)) (mX46_counter a0 M r h) (hX46_counter) 0 rfl (L0 := [(0, .ref a0)]) (fun E => fe_args_e E [.ref a0] 0) ((eX46_counter FX46_counter_0 a0 M).trans h) (fe_kl_k r) (fun H hR => fs_nr_o (by decide) (by decide)) ?_
  intro p e s m args below meth c Q C hnm
  have hw : s0.WarmedH s.vm := C.2.2.2.2.1
  refine fe_all C fk_hwr cX46_counter [1, 4, 7] (by decide +kernel) (fe_fil (cps := [(1, 4, .getfield 885305646), (4, 7, .getfield 717484286), (7, 10, .getfield 751042817)]) (by decide +kernel) ?_)
  refine fs_c1 (fs_getf (pc := 1) (n := 885305646) (idx := 12) (ref := "BoardMachine$Processor") (O := "BoardMachine$Processor") (name := "integers") (desc := "LBoardMachine$Integers$IntegerUnit;") C (by decide +kernel) (Or.inl (kw K hw q2078)) (fun _ h => h) (Nat.le_of_ble_eq_true rfl) (Nat.le_of_ble_eq_true rfl) (fs_one (⟨_, ff_75_211 s0 H0 oa D⟩))) ?_
  refine fs_c1 (fs_getf (pc := 4) (n := 717484286) (idx := 80) (ref := "BoardMachine$Integers$IntegerUnit") (O := "BoardMachine$Integers$IntegerUnit") (name := "registers") (desc := "LBoardMachine$Integers$Registers;") C (by decide +kernel) (Or.inr ⟨_, kF K hw q1404⟩) (fun _ h => h) (Nat.le_of_ble_eq_true rfl) (Nat.le_of_ble_eq_true rfl) (fs_one (⟨_, ff_63_171 s0 H0 oa D⟩))) ?_
  refine fs_c1 (fs_getf (pc := 7) (n := 751042817) (idx := 228) (ref := "BoardMachine$Integers$Registers") (O := "BoardMachine$Integers$Registers") (name := "counter") (desc := "J") C (by decide +kernel) (Or.inr ⟨_, kF K hw q1293⟩) (fun _ h => h) (Nat.le_of_ble_eq_true rfl) (Nat.le_of_ble_eq_true rfl) (fs_one (⟨_, ff_64_179 s0 H0 oa D⟩))) ?_
  exact fs_c0
theorem hX102_bits : fe_H (sX102_bits) cX102_bits [0] fe_kl [] 20 (fun _ => dX102_bits FX102_bits_0) := by
  intro j pc L st M r hc h
  rcases fe_mem_c hc with rfl | hc
  · obtain ⟨w0, m0, h⟩ := fe_lL_d h
    obtain ⟨w2, m2, h⟩ := fe_lI_d h
    obtain ⟨w3, m3, h⟩ := fe_lI_d h
    obtain ⟨rfl, hz⟩ := fe_t0_d h
    exact ⟨[(0, .long w0), (2, .int w2), (3, .int w3)], (fe_cs m0 (fe_cs m2 (fe_cs m3 fe_nl))), Or.inr ((bX102_bits_0 FX102_bits_0 w0 w2 w3 M).symm.trans hz)⟩
  exact fe_mem_0 hc
theorem vX102_bits : fe_SB (sX102_bits) := by
  refine ⟨?_, ?_, ?_, ?_⟩
  · intro i As M r h
    exact fe_no h
  · intro i As M r h
    exact fe_no h
  · intro i As M r h
    exact fe_no h
  · intro i As M r h
    exact fe_no h
theorem eX102_bits (g0 : Int64 → Int32 → Int32 → FM → Option (Int64 × FM)) (a0 : Int64) (a2 : Int32) (a3 : Int32) (M : FM) : dX102_bits g0 0 [(0, .long a0), (2, .int a2), (3, .int a3)] [] M = g0 a0 a2 a3 M := by rfl
theorem mX102_bits (a0 : Int64) (a2 : Int32) (a3 : Int32) (M : FM) (r : Int64 × FM) (h : FX102_bits a0 a2 a3 M = some r) : fm_nx M ≤ fm_nx r.2 ∧ fm_ns M ≤ fm_ns r.2 :=
  fe_mono (L0 := [(0, .long a0), (2, .int a2), (3, .int a3)]) (vX102_bits) (by decide +kernel) (hX102_bits) (fe_kl_k r) 0 rfl ((eX102_bits FX102_bits_0 a0 a2 a3 M).trans h)
theorem zX102_bits {s0 : State} {H0 : Heap} {oa : Nat → Nat} {D : va_G} (K : fk s0 H0 oa D) (l : Launch) (a0 : Int64) (a2 : Int32) (a3 : Int32) (M : FM) (r : Int64 × FM) (h : FX102_bits a0 a2 a3 M = some r) : fs_Con (fk_E s0 H0 oa D) l 1 ⟨"BoardMachine$Walks", "bits", "(JII)J"⟩ prog_102_method_2_code 4 (Option.some Jvm.ClassFile.FieldType.long) [.long a0, .int a2, .int a3] M (some (.long r.1)) r.2 := by
  refine fs_method (own := "BoardMachine$Walks") rfl (by decide) K.2.1 (by rw [fe_slen]; exact (Nat.le_of_ble_eq_true rfl)) (mX102_bits a0 a2 a3 M r h) (hX102_bits) 0 rfl (L0 := [(0, .long a0), (2, .int a2), (3, .int a3)]) (fun E => fe_args_e E [.long a0, .int a2, .int a3] 0) ((eX102_bits FX102_bits_0 a0 a2 a3 M).trans h) (fe_kl_k r) (fun H hR => fs_nr_o (by decide) (by decide)) ?_
  intro p e s m args below meth c Q C hnm
  have hw : s0.WarmedH s.vm := C.2.2.2.2.1
  refine fe_all C fk_hwr cX102_bits [] (by decide +kernel) (fe_fil (cps := []) (by decide +kernel) ?_)
  exact fs_c0
theorem hX84_fault : fe_H (sX84_fault) cX84_fault [0] fe_kl [] 20 (fun _ => dX84_fault FX84_fault_0) := by
  intro j pc L st M r hc h
  rcases fe_mem_c hc with rfl | hc
  · obtain ⟨w0, m0, h⟩ := fe_lR_d h
    obtain ⟨w1, m1, h⟩ := fe_lI_d h
    obtain ⟨w2, m2, h⟩ := fe_lI_d h
    obtain ⟨rfl, hz⟩ := fe_t0_d h
    exact ⟨[(0, .ref w0), (1, .int w1), (2, .int w2)], (fe_cs m0 (fe_cs m1 (fe_cs m2 fe_nl))), Or.inr ((bX84_fault_0 FX84_fault_0 w0 w1 w2 M).symm.trans hz)⟩
  exact fe_mem_0 hc
theorem vX84_fault : fe_SB (sX84_fault) := by
  refine ⟨?_, ?_, ?_, ?_⟩
  · intro i As M r h
    exact fe_no h
  · intro i As M r h
    exact fe_no h
  · intro i As M r h
    exact fe_no h
  · intro i As M r h
    exact fe_no h
theorem eX84_fault (g0 : Nat → Int32 → Int32 → FM → Option (Int64 × FM)) (a0 : Nat) (a1 : Int32) (a2 : Int32) (M : FM) : dX84_fault g0 0 [(0, .ref a0), (1, .int a1), (2, .int a2)] [] M = g0 a0 a1 a2 M := by rfl
theorem mX84_fault (a0 : Nat) (a1 : Int32) (a2 : Int32) (M : FM) (r : Int64 × FM) (h : FX84_fault a0 a1 a2 M = some r) : fm_nx M ≤ fm_nx r.2 ∧ fm_ns M ≤ fm_ns r.2 :=
  fe_mono (L0 := [(0, .ref a0), (1, .int a1), (2, .int a2)]) (vX84_fault) (by decide +kernel) (hX84_fault) (fe_kl_k r) 0 rfl ((eX84_fault FX84_fault_0 a0 a1 a2 M).trans h)
theorem zX84_fault {s0 : State} {H0 : Heap} {oa : Nat → Nat} {D : va_G} (K : fk s0 H0 oa D) (l : Launch) (a0 : Nat) (a1 : Int32) (a2 : Int32) (M : FM) (r : Int64 × FM) (h : FX84_fault a0 a1 a2 M = some r) : fs_Con (fk_E s0 H0 oa D) l 1 ⟨"BoardMachine$Walks$Translator", "fault", "(II)J"⟩ prog_107_method_3_code 3 (Option.some Jvm.ClassFile.FieldType.long) [.ref a0, .int a1, .int a2] M (some (.long r.1)) r.2 := by
  refine fs_method (own := "BoardMachine$Walks$Translator") rfl (by decide) K.2.1 (by rw [fe_slen]; exact (Nat.le_of_ble_eq_true rfl)) (mX84_fault a0 a1 a2 M r h) (hX84_fault) 0 rfl (L0 := [(0, .ref a0), (1, .int a1), (2, .int a2)]) (fun E => fe_args_e E [.ref a0, .int a1, .int a2] 0) ((eX84_fault FX84_fault_0 a0 a1 a2 M).trans h) (fe_kl_k r) (fun H hR => fs_nr_o (by decide) (by decide)) ?_
  intro p e s m args below meth c Q C hnm
  have hw : s0.WarmedH s.vm := C.2.2.2.2.1
  refine fe_all C fk_hwr cX84_fault [1] (by decide +kernel) (fe_fil (cps := [(1, 4, .getfield 1199944046)]) (by decide +kernel) ?_)
  refine fs_c1 (fs_getf (pc := 1) (n := 1199944046) (idx := 11) (ref := "BoardMachine$Walks$Translator") (O := "BoardMachine$Walks$Translator") (name := "faults") (desc := "[[I") C (by decide +kernel) (Or.inl (kw K hw q2018)) (fun _ h => h) (Nat.le_of_ble_eq_true rfl) (Nat.le_of_ble_eq_true rfl) (fs_one (⟨_, ff_91_286 s0 H0 oa D⟩))) ?_
  exact fs_c0
theorem hX85_writes : fe_H (sX85_writes FX11_pageOf) cX85_writes [0] fe_kl [] 20 (fun _ => dX85_writes FX85_writes_0) := by
  intro j pc L st M r hc h
  rcases fe_mem_c hc with rfl | hc
  · obtain ⟨w0, m0, h⟩ := fe_lR_d h
    obtain ⟨w1, m1, h⟩ := fe_lL_d h
    obtain ⟨rfl, hz⟩ := fe_t0_d h
    exact ⟨[(0, .ref w0), (1, .long w1)], (fe_cs m0 (fe_cs m1 fe_nl)), Or.inr ((bX85_writes_0 FX11_pageOf FX85_writes_0 w0 w1 M).symm.trans hz)⟩
  exact fe_mem_0 hc
theorem vX85_writes : fe_SB (sX85_writes FX11_pageOf) := by
  refine ⟨?_, ?_, ?_, ?_⟩
  · intro i As M r h
    exact fe_no h
  · intro i As M r h
    rcases fe_bc h with h | h
    · obtain ⟨v0, t0, rfl, g0⟩ := fe_tL_d h
      obtain ⟨rfl, hz⟩ := fe_t0_d g0
      exact mX11_pageOf v0 M r hz
    exact fe_no h
  · intro i As M r h
    exact fe_no h
  · intro i As M r h
    exact fe_no h
theorem eX85_writes (g0 : Nat → Int64 → FM → Option (Int64 × FM)) (a0 : Nat) (a1 : Int64) (M : FM) : dX85_writes g0 0 [(0, .ref a0), (1, .long a1)] [] M = g0 a0 a1 M := by rfl
theorem mX85_writes (a0 : Nat) (a1 : Int64) (M : FM) (r : Int64 × FM) (h : FX85_writes a0 a1 M = some r) : fm_nx M ≤ fm_nx r.2 ∧ fm_ns M ≤ fm_ns r.2 :=
  fe_mono (L0 := [(0, .ref a0), (1, .long a1)]) (vX85_writes) (by decide +kernel) (hX85_writes) (fe_kl_k r) 0 rfl ((eX85_writes FX85_writes_0 a0 a1 M).trans h)
theorem zX85_writes {s0 : State} {H0 : Heap} {oa : Nat → Nat} {D : va_G} (K : fk s0 H0 oa D) (l : Launch) (a0 : Nat) (a1 : Int64) (M : FM) (r : Int64 × FM) (h : FX85_writes a0 a1 M = some r) : fs_Con (fk_E s0 H0 oa D) l 2 ⟨"BoardMachine$TableWords", "writes", "(J)J"⟩ prog_94_method_5_code 3 (Option.some Jvm.ClassFile.FieldType.long) [.ref a0, .long a1] M (some (.long r.1)) r.2 := by
  have o0 : fs_OS (sX85_writes FX11_pageOf) 0 1 (fs_Con (fk_E s0 H0 oa D) l 1 ⟨"BoardMachine$Memories$Ram", "pageOf", "(J)I"⟩ prog_82_method_3_code 2 (Option.some Jvm.ClassFile.FieldType.int)) := by
    intro As M r h
    obtain ⟨v0, t0, rfl, g0⟩ := fe_tL_d h
    obtain ⟨rfl, hz⟩ := fe_t0_d g0
    exact zX11_pageOf K l v0 M r hz
  refine fs_method (own := "BoardMachine$TableWords") rfl (by decide) K.2.1 (by rw [fe_slen]; exact (Nat.le_of_ble_eq_true rfl)) (mX85_writes a0 a1 M r h) (hX85_writes) 0 rfl (L0 := [(0, .ref a0), (1, .long a1)]) (fun E => fe_args_e E [.ref a0, .long a1] 0) ((eX85_writes FX85_writes_0 a0 a1 M).trans h) (fe_kl_k r) (fun H hR => fs_nr_o (by decide) (by decide)) ?_
  intro p e s m args below meth c Q C hnm
  have hw : s0.WarmedH s.vm := C.2.2.2.2.1
  refine fe_all C fk_hwr cX85_writes [1, 4, 8] (by decide +kernel) (fe_fil (cps := [(1, 4, .getfield 1036325190), (4, 7, .getfield 855937318), (8, 11, .invokestatic 5)]) (by decide +kernel) ?_)
  refine fs_c1 (fs_getf (pc := 1) (n := 1036325190) (idx := 7) (ref := "BoardMachine$TableWords") (O := "BoardMachine$TableWords") (name := "ram") (desc := "LBoardMachine$Memories$Ram;") C (by decide +kernel) (Or.inl (kw K hw q1925)) (fun _ h => h) (Nat.le_of_ble_eq_true rfl) (Nat.le_of_ble_eq_true rfl) (fs_one (⟨_, ff_81_247 s0 H0 oa D⟩))) ?_
  refine fs_c1 (fs_getf (pc := 4) (n := 855937318) (idx := 31) (ref := "BoardMachine$Memories$Ram") (O := "BoardMachine$Memories$Ram") (name := "writes") (desc := "[J") C (by decide +kernel) (Or.inr ⟨_, kF K hw q693⟩) (fun _ h => h) (Nat.le_of_ble_eq_true rfl) (Nat.le_of_ble_eq_true rfl) (fs_one (⟨_, ff_73_204 s0 H0 oa D⟩))) ?_
  refine fs_c1 (fs_inv_static (pc := 8) (n := 5) C (fs_lk_static (idx := 35) (y := ⟨"BoardMachine$Memories$Ram", "pageOf", "(J)I"⟩) (bytes := prog_82_method_3_code) (maxL := 2) (rt := (Option.some Jvm.ClassFile.FieldType.int)) (d := 1) C (by decide +kernel) (kw K hw q2391) (kw K hw q321) (kw K hw q2390) (Or.inr ⟨_, kM K hw q3012⟩) ⟨by decide, by decide⟩ rfl (Nat.le_of_ble_eq_true rfl) (Nat.le_of_ble_eq_true rfl)) fs_con_mono o0) ?_
  exact fs_c0
theorem hX88_holds (n : Nat) : fe_H (sX88_holds FX85_writes) cX88_holds [0, 2] fe_ki [2] 29 (fun j => dX88_holds (FX88_holds_0 n (FX88_holds_L2 n j)) (FX88_holds_L2 n j)) := by
  intro j pc L st M r hc h
  rcases fe_mem_c hc with rfl | hc
  · obtain ⟨w0, m0, h⟩ := fe_lR_d h
    obtain ⟨w1, m1, h⟩ := fe_lR_d h
    obtain ⟨rfl, hz⟩ := fe_t0_d h
    exact ⟨[(0, .ref w0), (1, .ref w1)], (fe_cs m0 (fe_cs m1 fe_nl)), Or.inr ((bX88_holds_0 FX85_writes (FX88_holds_0 n (FX88_holds_L2 n j)) (FX88_holds_L2 n j) w0 w1 M).symm.trans hz)⟩
  rcases fe_mem_c hc with rfl | hc
  · obtain ⟨w0, m0, h⟩ := fe_lR_d h
    obtain ⟨w1, m1, h⟩ := fe_lR_d h
    obtain ⟨w2, m2, h⟩ := fe_lI_d h
    obtain ⟨rfl, hz⟩ := fe_t0_d h
    cases j with
    | zero => exact fe_no hz
    | succ j => exact ⟨[(0, .ref w0), (1, .ref w1), (2, .int w2)], (fe_cs m0 (fe_cs m1 (fe_cs m2 fe_nl))), Or.inl ⟨j, rfl, (bX88_holds_2 FX85_writes (FX88_holds_0 n (FX88_holds_L2 n j)) (FX88_holds_L2 n j) w0 w1 w2 M).symm.trans hz⟩⟩
  exact fe_mem_0 hc
theorem vX88_holds (n : Nat) : fe_SB (sX88_holds FX85_writes) := by
  refine ⟨?_, ?_, ?_, ?_⟩
  · intro i As M r h
    exact fe_no h
  · intro i As M r h
    exact fe_no h
  · intro i As M r h
    rcases fe_bc h with h | h
    · obtain ⟨v0, t0, rfl, g0⟩ := fe_tR_d h
      obtain ⟨v1, t1, rfl, g1⟩ := fe_tL_d g0
      obtain ⟨rfl, hz⟩ := fe_t0_d g1
      exact mX85_writes v0 v1 M r hz
    exact fe_no h
  · intro i As M r h
    exact fe_no h
theorem eX88_holds (g0 : Nat → Nat → FM → Option (Int32 × FM)) (k2 : Nat → Nat → Int32 → FM → Option (Int32 × FM)) (a0 : Nat) (a1 : Nat) (M : FM) : dX88_holds g0 k2 0 [(0, .ref a0), (1, .ref a1)] [] M = g0 a0 a1 M := by rfl
theorem mX88_holds (n : Nat) (a0 : Nat) (a1 : Nat) (M : FM) (r : Int32 × FM) (h : FX88_holds n a0 a1 M = some r) : fm_nx M ≤ fm_nx r.2 ∧ fm_ns M ≤ fm_ns r.2 :=
  fe_mono (L0 := [(0, .ref a0), (1, .ref a1)]) (vX88_holds n) (by decide +kernel) (hX88_holds n) (fe_ki_k r) n rfl ((eX88_holds (FX88_holds_0 n (FX88_holds_L2 n n)) (FX88_holds_L2 n n) a0 a1 M).trans h)
theorem zX88_holds {s0 : State} {H0 : Heap} {oa : Nat → Nat} {D : va_G} (K : fk s0 H0 oa D) (l : Launch) (n : Nat) (a0 : Nat) (a1 : Nat) (M : FM) (r : Int32 × FM) (h : FX88_holds n a0 a1 M = some r) : fs_Con (fk_E s0 H0 oa D) l 3 ⟨"BoardMachine$Walks$Kept", "holds", "(LBoardMachine$Walks$Words;)Z"⟩ prog_103_method_2_code 3 (Option.some Jvm.ClassFile.FieldType.boolean) [.ref a0, .ref a1] M (some (.int r.1)) r.2 := by
  have o0 : fs_OS (sX88_holds FX85_writes) 0 2 (fs_Con (fk_E s0 H0 oa D) l 2 ⟨"BoardMachine$TableWords", "writes", "(J)J"⟩ prog_94_method_5_code 3 (Option.some Jvm.ClassFile.FieldType.long)) := by
    intro As M r h
    obtain ⟨v0, t0, rfl, g0⟩ := fe_tR_d h
    obtain ⟨v1, t1, rfl, g1⟩ := fe_tL_d g0
    obtain ⟨rfl, hz⟩ := fe_t0_d g1
    exact zX85_writes K l v0 v1 M r hz
  refine fs_method (own := "BoardMachine$Walks$Kept") rfl (by decide) K.2.1 (by rw [fe_slen]; exact (Nat.le_of_ble_eq_true rfl)) (mX88_holds n a0 a1 M r h) (hX88_holds n) n rfl (L0 := [(0, .ref a0), (1, .ref a1)]) (fun E => fe_args_e E [.ref a0, .ref a1] 0) ((eX88_holds (FX88_holds_0 n (FX88_holds_L2 n n)) (FX88_holds_L2 n n) a0 a1 M).trans h) (fe_ki_k r) (fun H hR => fs_nr_o (by decide) (by decide)) ?_
  intro p e s m args below meth c Q C hnm
  have hw : s0.WarmedH s.vm := C.2.2.2.2.1
  refine fe_all C fk_hwr cX88_holds [4, 12, 17, 23] (by decide +kernel) (fe_fil (cps := [(4, 7, .getfield 1162183008), (12, 15, .getfield 1166377314), (17, 22, .invokeinterface 0 0), (23, 26, .getfield 1170571618)]) (by decide +kernel) ?_)
  refine fs_c1 (fs_getf (pc := 4) (n := 1162183008) (idx := 16) (ref := "BoardMachine$Walks$Kept") (O := "BoardMachine$Walks$Kept") (name := "depth") (desc := "I") C (by decide +kernel) (Or.inl (kw K hw q1989)) (fun _ h => h) (Nat.le_of_ble_eq_true rfl) (Nat.le_of_ble_eq_true rfl) (fs_one (⟨_, ff_88_277 s0 H0 oa D⟩))) ?_
  refine fs_c1 (fs_getf (pc := 12) (n := 1166377314) (idx := 7) (ref := "BoardMachine$Walks$Kept") (O := "BoardMachine$Walks$Kept") (name := "entries") (desc := "[J") C (by decide +kernel) (Or.inl (kw K hw q1991)) (fun _ h => h) (Nat.le_of_ble_eq_true rfl) (Nat.le_of_ble_eq_true rfl) (fs_one (⟨_, ff_88_278 s0 H0 oa D⟩))) ?_
  refine fs_c1 (fs_inv_table (pc := 17) (nx := 22) (i := 0) (k := 0) C rfl (List.forall_mem_cons.mpr ⟨⟨(Nat.le_of_ble_eq_true rfl), (Nat.le_of_ble_eq_true rfl), _, fs_lk_face (idx := 20) (cnt := 3) (x := ⟨"BoardMachine$Walks$Words", "writes", "(J)J"⟩) (y := ⟨"BoardMachine$TableWords", "writes", "(J)J"⟩) (bytes := prog_94_method_5_code) (maxL := 3) (rt := (Option.some Jvm.ClassFile.FieldType.long)) (d := 2) C (Nat.le_of_ble_eq_true rfl) (Nat.le_of_ble_eq_true rfl) (by decide +kernel) (kw K hw q3011) (kw K hw q396) (kw K hw q3009) (kw K hw q3003) (kFw (C := "BoardMachine$TableWords") (x := ⟨"BoardMachine$Walks$Words", "writes", "(J)J"⟩) (y := ⟨"BoardMachine$TableWords", "writes", "(J)J"⟩) (args := args) K hw ⟨by decide, by decide⟩ q3005 q3004 q3010 q3008 q3006).1 (kFw (C := "BoardMachine$TableWords") (x := ⟨"BoardMachine$Walks$Words", "writes", "(J)J"⟩) (y := ⟨"BoardMachine$TableWords", "writes", "(J)J"⟩) (args := args) K hw ⟨by decide, by decide⟩ q3005 q3004 q3010 q3008 q3006).2.1 (kFw (C := "BoardMachine$TableWords") (x := ⟨"BoardMachine$Walks$Words", "writes", "(J)J"⟩) (y := ⟨"BoardMachine$TableWords", "writes", "(J)J"⟩) (args := args) K hw ⟨by decide, by decide⟩ q3005 q3004 q3010 q3008 q3006).2.2.1 ⟨by decide, by decide⟩ rfl (Nat.le_of_ble_eq_true rfl) (Nat.le_of_ble_eq_true rfl) (fs_one ⟨_, rfl, kw K hw q3007, (kFw (C := "BoardMachine$TableWords") (x := ⟨"BoardMachine$Walks$Words", "writes", "(J)J"⟩) (y := ⟨"BoardMachine$TableWords", "writes", "(J)J"⟩) (args := args) K hw ⟨by decide, by decide⟩ q3005 q3004 q3010 q3008 q3006).2.2.2.1, (kFw (C := "BoardMachine$TableWords") (x := ⟨"BoardMachine$Walks$Words", "writes", "(J)J"⟩) (y := ⟨"BoardMachine$TableWords", "writes", "(J)J"⟩) (args := args) K hw ⟨by decide, by decide⟩ q3005 q3004 q3010 q3008 q3006).2.2.2.2⟩), fs_con_mono, o0⟩, List.forall_mem_nil _⟩)) ?_
  refine fs_c1 (fs_getf (pc := 23) (n := 1170571618) (idx := 13) (ref := "BoardMachine$Walks$Kept") (O := "BoardMachine$Walks$Kept") (name := "writes") (desc := "[J") C (by decide +kernel) (Or.inl (kw K hw q1993)) (fun _ h => h) (Nat.le_of_ble_eq_true rfl) (Nat.le_of_ble_eq_true rfl) (fs_one (⟨_, ff_88_279 s0 H0 oa D⟩))) ?_
  exact fs_c0
theorem hX11_has : fe_H (sX11_has) cX11_has [0, 35, 36] fe_ki [] 27 (fun _ => dX11_has FX11_has_0 FX11_has_35 FX11_has_36) := by
  intro j pc L st M r hc h
  rcases fe_mem_c hc with rfl | hc
  · obtain ⟨w0, m0, h⟩ := fe_lR_d h
    obtain ⟨w1, m1, h⟩ := fe_lL_d h
    obtain ⟨w3, m3, h⟩ := fe_lL_d h
    obtain ⟨rfl, hz⟩ := fe_t0_d h
    exact ⟨[(0, .ref w0), (1, .long w1), (3, .long w3)], (fe_cs m0 (fe_cs m1 (fe_cs m3 fe_nl))), Or.inr ((bX11_has_0 FX11_has_0 FX11_has_35 FX11_has_36 w0 w1 w3 M).symm.trans hz)⟩
  rcases fe_mem_c hc with rfl | hc
  · obtain ⟨rfl, hz⟩ := fe_t0_d h
    exact ⟨[], fe_nl, Or.inr ((bX11_has_35 FX11_has_0 FX11_has_35 FX11_has_36 M).symm.trans hz)⟩
  rcases fe_mem_c hc with rfl | hc
  · obtain ⟨s0, t0, rfl, g0⟩ := fe_tI_d h
    obtain ⟨rfl, hz⟩ := fe_t0_d g0
    exact ⟨[], fe_nl, Or.inr ((bX11_has_36 FX11_has_0 FX11_has_35 FX11_has_36 s0 M).symm.trans hz)⟩
  exact fe_mem_0 hc
theorem vX11_has : fe_SB (sX11_has) := by
  refine ⟨?_, ?_, ?_, ?_⟩
  · intro i As M r h
    exact fe_no h
  · intro i As M r h
    exact fe_no h
  · intro i As M r h
    exact fe_no h
  · intro i As M r h
    exact fe_no h
theorem eX11_has (g0 : Nat → Int64 → Int64 → FM → Option (Int32 × FM)) (g35 : FM → Option (Int32 × FM)) (g36 : Int32 → FM → Option (Int32 × FM)) (a0 : Nat) (a1 : Int64) (a3 : Int64) (M : FM) : dX11_has g0 g35 g36 0 [(0, .ref a0), (1, .long a1), (3, .long a3)] [] M = g0 a0 a1 a3 M := by rfl
theorem mX11_has (a0 : Nat) (a1 : Int64) (a3 : Int64) (M : FM) (r : Int32 × FM) (h : FX11_has a0 a1 a3 M = some r) : fm_nx M ≤ fm_nx r.2 ∧ fm_ns M ≤ fm_ns r.2 :=
  fe_mono (L0 := [(0, .ref a0), (1, .long a1), (3, .long a3)]) (vX11_has) (by decide +kernel) (hX11_has) (fe_ki_k r) 0 rfl ((eX11_has FX11_has_0 FX11_has_35 FX11_has_36 a0 a1 a3 M).trans h)
theorem zX11_has {s0 : State} {H0 : Heap} {oa : Nat → Nat} {D : va_G} (K : fk s0 H0 oa D) (l : Launch) (a0 : Nat) (a1 : Int64) (a3 : Int64) (M : FM) (r : Int32 × FM) (h : FX11_has a0 a1 a3 M = some r) : fs_Con (fk_E s0 H0 oa D) l 1 ⟨"BoardMachine$Memories$Ram", "has", "(JJ)Z"⟩ prog_82_method_2_code 7 (Option.some Jvm.ClassFile.FieldType.boolean) [.ref a0, .long a1, .long a3] M (some (.int r.1)) r.2 := by
  refine fs_method (own := "BoardMachine$Memories$Ram") rfl (by decide) K.2.1 (by rw [fe_slen]; exact (Nat.le_of_ble_eq_true rfl)) (mX11_has a0 a1 a3 M r h) (hX11_has) 0 rfl (L0 := [(0, .ref a0), (1, .long a1), (3, .long a3)]) (fun E => fe_args_e E [.ref a0, .long a1, .long a3] 0) ((eX11_has FX11_has_0 FX11_has_35 FX11_has_36 a0 a1 a3 M).trans h) (fe_ki_k r) (fun H hR => fs_nr_o (by decide) (by decide)) ?_
  intro p e s m args below meth c Q C hnm
  have hw : s0.WarmedH s.vm := C.2.2.2.2.1
  refine fe_all C fk_hwr cX11_has [1, 17, 21] (by decide +kernel) (fe_fil (cps := [(1, 4, .jsr_w (2147483648)), (17, 20, .getfield 847548708), (21, 24, .jsr_w (4096))]) (by decide +kernel) ?_)
  refine fs_c1 (fs_ldcl (pc := 1) (idx := 54) (v := 2147483648) C (by decide +kernel) (kw K hw q2392)) ?_
  refine fs_c1 (fs_getf (pc := 17) (n := 847548708) (idx := 33) (ref := "BoardMachine$Memories$Ram") (O := "BoardMachine$Memories$Ram") (name := "many") (desc := "I") C (by decide +kernel) (Or.inl (kw K hw q690)) (fun _ h => h) (Nat.le_of_ble_eq_true rfl) (Nat.le_of_ble_eq_true rfl) (fs_one (⟨_, ff_73_202 s0 H0 oa D⟩))) ?_
  refine fs_c1 (fs_ldcl (pc := 21) (idx := 56) (v := 4096) C (by decide +kernel) (kw K hw q2731)) ?_
  exact fs_c0
theorem hX85_has : fe_H (sX85_has FX11_has) cX85_has [0, 28, 29] fe_ki [] 21 (fun _ => dX85_has FX85_has_0 FX85_has_28 FX85_has_29) := by
  intro j pc L st M r hc h
  rcases fe_mem_c hc with rfl | hc
  · obtain ⟨w0, m0, h⟩ := fe_lR_d h
    obtain ⟨w1, m1, h⟩ := fe_lL_d h
    obtain ⟨rfl, hz⟩ := fe_t0_d h
    exact ⟨[(0, .ref w0), (1, .long w1)], (fe_cs m0 (fe_cs m1 fe_nl)), Or.inr ((bX85_has_0 FX11_has FX85_has_0 FX85_has_28 FX85_has_29 w0 w1 M).symm.trans hz)⟩
  rcases fe_mem_c hc with rfl | hc
  · obtain ⟨rfl, hz⟩ := fe_t0_d h
    exact ⟨[], fe_nl, Or.inr ((bX85_has_28 FX11_has FX85_has_0 FX85_has_28 FX85_has_29 M).symm.trans hz)⟩
  rcases fe_mem_c hc with rfl | hc
  · obtain ⟨s0, t0, rfl, g0⟩ := fe_tI_d h
    obtain ⟨rfl, hz⟩ := fe_t0_d g0
    exact ⟨[], fe_nl, Or.inr ((bX85_has_29 FX11_has FX85_has_0 FX85_has_28 FX85_has_29 s0 M).symm.trans hz)⟩
  exact fe_mem_0 hc
theorem vX85_has : fe_SB (sX85_has FX11_has) := by
  refine ⟨?_, ?_, ?_, ?_⟩
  · intro i As M r h
    exact fe_no h
  · intro i As M r h
    rcases fe_bc h with h | h
    · obtain ⟨v0, t0, rfl, g0⟩ := fe_tR_d h
      obtain ⟨v1, t1, rfl, g1⟩ := fe_tL_d g0
      obtain ⟨v2, t2, rfl, g2⟩ := fe_tL_d g1
      obtain ⟨rfl, hz⟩ := fe_t0_d g2
      exact mX11_has v0 v1 v2 M r hz
    exact fe_no h
  · intro i As M r h
    exact fe_no h
  · intro i As M r h
    exact fe_no h
theorem eX85_has (g0 : Nat → Int64 → FM → Option (Int32 × FM)) (g28 : FM → Option (Int32 × FM)) (g29 : Int32 → FM → Option (Int32 × FM)) (a0 : Nat) (a1 : Int64) (M : FM) : dX85_has g0 g28 g29 0 [(0, .ref a0), (1, .long a1)] [] M = g0 a0 a1 M := by rfl
theorem mX85_has (a0 : Nat) (a1 : Int64) (M : FM) (r : Int32 × FM) (h : FX85_has a0 a1 M = some r) : fm_nx M ≤ fm_nx r.2 ∧ fm_ns M ≤ fm_ns r.2 :=
  fe_mono (L0 := [(0, .ref a0), (1, .long a1)]) (vX85_has) (by decide +kernel) (hX85_has) (fe_ki_k r) 0 rfl ((eX85_has FX85_has_0 FX85_has_28 FX85_has_29 a0 a1 M).trans h)
theorem zX85_has {s0 : State} {H0 : Heap} {oa : Nat → Nat} {D : va_G} (K : fk s0 H0 oa D) (l : Launch) (a0 : Nat) (a1 : Int64) (M : FM) (r : Int32 × FM) (h : FX85_has a0 a1 M = some r) : fs_Con (fk_E s0 H0 oa D) l 2 ⟨"BoardMachine$TableWords", "has", "(J)Z"⟩ prog_94_method_2_code 3 (Option.some Jvm.ClassFile.FieldType.boolean) [.ref a0, .long a1] M (some (.int r.1)) r.2 := by
  have o0 : fs_OS (sX85_has FX11_has) 0 1 (fs_Con (fk_E s0 H0 oa D) l 1 ⟨"BoardMachine$Memories$Ram", "has", "(JJ)Z"⟩ prog_82_method_2_code 7 (Option.some Jvm.ClassFile.FieldType.boolean)) := by
    intro As M r h
    obtain ⟨v0, t0, rfl, g0⟩ := fe_tR_d h
    obtain ⟨v1, t1, rfl, g1⟩ := fe_tL_d g0
    obtain ⟨v2, t2, rfl, g2⟩ := fe_tL_d g1
    obtain ⟨rfl, hz⟩ := fe_t0_d g2
    exact zX11_has K l v0 v1 v2 M r hz
  refine fs_method (own := "BoardMachine$TableWords") rfl (by decide) K.2.1 (by rw [fe_slen]; exact (Nat.le_of_ble_eq_true rfl)) (mX85_has a0 a1 M r h) (hX85_has) 0 rfl (L0 := [(0, .ref a0), (1, .long a1)]) (fun E => fe_args_e E [.ref a0, .long a1] 0) ((eX85_has FX85_has_0 FX85_has_28 FX85_has_29 a0 a1 M).trans h) (fe_ki_k r) (fun H hR => fs_nr_o (by decide) (by decide)) ?_
  intro p e s m args below meth c Q C hnm
  have hw : s0.WarmedH s.vm := C.2.2.2.2.1
  refine fe_all C fk_hwr cX85_has [1, 11, 15, 18] (by decide +kernel) (fe_fil (cps := [(1, 4, .jsr_w (7)), (11, 14, .getfield 1036325190), (15, 18, .jsr_w (8)), (18, 21, .invokevirtual 13706313)]) (by decide +kernel) ?_)
  refine fs_c1 (fs_ldcl (pc := 1) (idx := 13) (v := 7) C (by decide +kernel) (kw K hw q3031)) ?_
  refine fs_c1 (fs_getf (pc := 11) (n := 1036325190) (idx := 7) (ref := "BoardMachine$TableWords") (O := "BoardMachine$TableWords") (name := "ram") (desc := "LBoardMachine$Memories$Ram;") C (by decide +kernel) (Or.inl (kw K hw q1925)) (fun _ h => h) (Nat.le_of_ble_eq_true rfl) (Nat.le_of_ble_eq_true rfl) (fs_one (⟨_, ff_81_247 s0 H0 oa D⟩))) ?_
  refine fs_c1 (fs_ldcl (pc := 15) (idx := 15) (v := 8) C (by decide +kernel) (kw K hw q3032)) ?_
  refine fs_c1 (fs_inv_virtual (pc := 18) (n := 13706313) C (Nat.le_of_ble_eq_true rfl) (Nat.le_of_ble_eq_true rfl) (fs_lk_virtual (idx := 17) (y := ⟨"BoardMachine$Memories$Ram", "has", "(JJ)Z"⟩) (bytes := prog_82_method_2_code) (maxL := 7) (rt := (Option.some Jvm.ClassFile.FieldType.boolean)) (d := 1) C (Nat.le_of_ble_eq_true rfl) (Nat.le_of_ble_eq_true rfl) (by decide +kernel) (kw K hw q2730) (kw K hw q321) (kw K hw q2728) (Or.inl (kw K hw q3033)) ⟨by decide, by decide⟩ rfl (Nat.le_of_ble_eq_true rfl) (Nat.le_of_ble_eq_true rfl) (fs_one (⟨_, rfl, kw K hw q2729⟩))) fs_con_mono o0) ?_
  exact fs_c0
theorem hX87_touches : fe_H (sX87_touches) cX87_touches [0, 37, 38] fe_ki [] 28 (fun _ => dX87_touches FX87_touches_0 FX87_touches_37 FX87_touches_38) := by
  intro j pc L st M r hc h
  rcases fe_mem_c hc with rfl | hc
  · obtain ⟨w0, m0, h⟩ := fe_lR_d h
    obtain ⟨w1, m1, h⟩ := fe_lL_d h
    obtain ⟨w3, m3, h⟩ := fe_lI_d h
    obtain ⟨rfl, hz⟩ := fe_t0_d h
    exact ⟨[(0, .ref w0), (1, .long w1), (3, .int w3)], (fe_cs m0 (fe_cs m1 (fe_cs m3 fe_nl))), Or.inr ((bX87_touches_0 FX87_touches_0 FX87_touches_37 FX87_touches_38 w0 w1 w3 M).symm.trans hz)⟩
  rcases fe_mem_c hc with rfl | hc
  · obtain ⟨rfl, hz⟩ := fe_t0_d h
    exact ⟨[], fe_nl, Or.inr ((bX87_touches_37 FX87_touches_0 FX87_touches_37 FX87_touches_38 M).symm.trans hz)⟩
  rcases fe_mem_c hc with rfl | hc
  · obtain ⟨s0, t0, rfl, g0⟩ := fe_tI_d h
    obtain ⟨rfl, hz⟩ := fe_t0_d g0
    exact ⟨[], fe_nl, Or.inr ((bX87_touches_38 FX87_touches_0 FX87_touches_37 FX87_touches_38 s0 M).symm.trans hz)⟩
  exact fe_mem_0 hc
theorem vX87_touches : fe_SB (sX87_touches) := by
  refine ⟨?_, ?_, ?_, ?_⟩
  · intro i As M r h
    exact fe_no h
  · intro i As M r h
    exact fe_no h
  · intro i As M r h
    exact fe_no h
  · intro i As M r h
    exact fe_no h
theorem eX87_touches (g0 : Nat → Int64 → Int32 → FM → Option (Int32 × FM)) (g37 : FM → Option (Int32 × FM)) (g38 : Int32 → FM → Option (Int32 × FM)) (a0 : Nat) (a1 : Int64) (a3 : Int32) (M : FM) : dX87_touches g0 g37 g38 0 [(0, .ref a0), (1, .long a1), (3, .int a3)] [] M = g0 a0 a1 a3 M := by rfl
theorem mX87_touches (a0 : Nat) (a1 : Int64) (a3 : Int32) (M : FM) (r : Int32 × FM) (h : FX87_touches a0 a1 a3 M = some r) : fm_nx M ≤ fm_nx r.2 ∧ fm_ns M ≤ fm_ns r.2 :=
  fe_mono (L0 := [(0, .ref a0), (1, .long a1), (3, .int a3)]) (vX87_touches) (by decide +kernel) (hX87_touches) (fe_ki_k r) 0 rfl ((eX87_touches FX87_touches_0 FX87_touches_37 FX87_touches_38 a0 a1 a3 M).trans h)
theorem zX87_touches {s0 : State} {H0 : Heap} {oa : Nat → Nat} {D : va_G} (K : fk s0 H0 oa D) (l : Launch) (a0 : Nat) (a1 : Int64) (a3 : Int32) (M : FM) (r : Int32 × FM) (h : FX87_touches a0 a1 a3 M = some r) : fs_Con (fk_E s0 H0 oa D) l 1 ⟨"BoardMachine$Walks$Region", "touches", "(JI)Z"⟩ prog_104_method_6_code 4 (Option.some Jvm.ClassFile.FieldType.boolean) [.ref a0, .long a1, .int a3] M (some (.int r.1)) r.2 := by
  refine fs_method (own := "BoardMachine$Walks$Region") rfl (by decide) K.2.1 (by rw [fe_slen]; exact (Nat.le_of_ble_eq_true rfl)) (mX87_touches a0 a1 a3 M r h) (hX87_touches) 0 rfl (L0 := [(0, .ref a0), (1, .long a1), (3, .int a3)]) (fun E => fe_args_e E [.ref a0, .long a1, .int a3] 0) ((eX87_touches FX87_touches_0 FX87_touches_37 FX87_touches_38 a0 a1 a3 M).trans h) (fe_ki_k r) (fun H hR => fs_nr_o (by decide) (by decide)) ?_
  intro p e s m args below meth c Q C hnm
  have hw : s0.WarmedH s.vm := C.2.2.2.2.1
  refine fe_all C fk_hwr cX87_touches [1, 5, 14, 26] (by decide +kernel) (fe_fil (cps := [(1, 4, .getfield 1183158629), (5, 8, .getfield 1187352933), (14, 17, .getfield 1187352933), (26, 29, .getfield 1183158629)]) (by decide +kernel) ?_)
  refine fs_c1 (fs_getf (pc := 1) (n := 1183158629) (idx := 40) (ref := "BoardMachine$Walks$Region") (O := "BoardMachine$Walks$Region") (name := "from") (desc := "J") C (by decide +kernel) (Or.inl (kw K hw q1954)) (fun _ h => h) (Nat.le_of_ble_eq_true rfl) (Nat.le_of_ble_eq_true rfl) (fs_one (⟨_, ff_89_282 s0 H0 oa D⟩))) ?_
  refine fs_c1 (fs_getf (pc := 5) (n := 1187352933) (idx := 47) (ref := "BoardMachine$Walks$Region") (O := "BoardMachine$Walks$Region") (name := "to") (desc := "J") C (by decide +kernel) (Or.inl (kw K hw q1955)) (fun _ h => h) (Nat.le_of_ble_eq_true rfl) (Nat.le_of_ble_eq_true rfl) (fs_one (⟨_, ff_89_283 s0 H0 oa D⟩))) ?_
  refine fs_c1 (fs_getf (pc := 14) (n := 1187352933) (idx := 47) (ref := "BoardMachine$Walks$Region") (O := "BoardMachine$Walks$Region") (name := "to") (desc := "J") C (by decide +kernel) (Or.inl (kw K hw q1955)) (fun _ h => h) (Nat.le_of_ble_eq_true rfl) (Nat.le_of_ble_eq_true rfl) (fs_one (⟨_, ff_89_283 s0 H0 oa D⟩))) ?_
  refine fs_c1 (fs_getf (pc := 26) (n := 1183158629) (idx := 40) (ref := "BoardMachine$Walks$Region") (O := "BoardMachine$Walks$Region") (name := "from") (desc := "J") C (by decide +kernel) (Or.inl (kw K hw q1954)) (fun _ h => h) (Nat.le_of_ble_eq_true rfl) (Nat.le_of_ble_eq_true rfl) (fs_one (⟨_, ff_89_282 s0 H0 oa D⟩))) ?_
  exact fs_c0
