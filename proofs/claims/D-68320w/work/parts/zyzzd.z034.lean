/-! contracts of methods, printed by gen/snd.py -/
set_option maxRecDepth 100000
set_option maxHeartbeats 4000000
theorem hX32_isWhole : fe_H (sX32_isWhole) cX32_isWhole [0, 20, 21] fe_ki [] 20 (fun _ => dX32_isWhole FX32_isWhole_0 FX32_isWhole_20 FX32_isWhole_21) := by
  intro j pc L st M r hc h
  rcases fe_mem_c hc with rfl | hc
  · obtain ⟨w0, m0, h⟩ := fe_lR_d h
    obtain ⟨w1, m1, h⟩ := fe_lL_d h
    obtain ⟨w3, m3, h⟩ := fe_lI_d h
    obtain ⟨rfl, hz⟩ := fe_t0_d h
    exact ⟨[(0, .ref w0), (1, .long w1), (3, .int w3)], (fe_cs m0 (fe_cs m1 (fe_cs m3 fe_nl))), Or.inr ((bX32_isWhole_0 FX32_isWhole_0 FX32_isWhole_20 FX32_isWhole_21 w0 w1 w3 M).symm.trans hz)⟩
  rcases fe_mem_c hc with rfl | hc
  · obtain ⟨rfl, hz⟩ := fe_t0_d h
    exact ⟨[], fe_nl, Or.inr ((bX32_isWhole_20 FX32_isWhole_0 FX32_isWhole_20 FX32_isWhole_21 M).symm.trans hz)⟩
  rcases fe_mem_c hc with rfl | hc
  · obtain ⟨s0, t0, rfl, g0⟩ := fe_tI_d h
    obtain ⟨rfl, hz⟩ := fe_t0_d g0
    exact ⟨[], fe_nl, Or.inr ((bX32_isWhole_21 FX32_isWhole_0 FX32_isWhole_20 FX32_isWhole_21 s0 M).symm.trans hz)⟩
  exact fe_mem_0 hc
theorem vX32_isWhole : fe_SB (sX32_isWhole) := by
  refine ⟨?_, ?_, ?_, ?_⟩
  · intro i As M r h
    exact fe_no h
  · intro i As M r h
    exact fe_no h
  · intro i As M r h
    exact fe_no h
  · intro i As M r h
    exact fe_no h
theorem eX32_isWhole (g0 : Nat → Int64 → Int32 → FM → Option (Int32 × FM)) (g20 : FM → Option (Int32 × FM)) (g21 : Int32 → FM → Option (Int32 × FM)) (a0 : Nat) (a1 : Int64) (a3 : Int32) (M : FM) : dX32_isWhole g0 g20 g21 0 [(0, .ref a0), (1, .long a1), (3, .int a3)] [] M = g0 a0 a1 a3 M := by rfl
theorem mX32_isWhole (a0 : Nat) (a1 : Int64) (a3 : Int32) (M : FM) (r : Int32 × FM) (h : FX32_isWhole a0 a1 a3 M = some r) : fm_nx M ≤ fm_nx r.2 ∧ fm_ns M ≤ fm_ns r.2 :=
  fe_mono (L0 := [(0, .ref a0), (1, .long a1), (3, .int a3)]) (vX32_isWhole) (by decide +kernel) (hX32_isWhole) (fe_ki_k r) 0 rfl ((eX32_isWhole FX32_isWhole_0 FX32_isWhole_20 FX32_isWhole_21 a0 a1 a3 M).trans h)
theorem zX32_isWhole {s0 : State} {H0 : Heap} {oa : Nat → Nat} {D : va_G} (K : fk s0 H0 oa D) (l : Launch) (a0 : Nat) (a1 : Int64) (a3 : Int32) (M : FM) (r : Int32 × FM) (h : FX32_isWhole a0 a1 a3 M = some r) : fs_Con (fk_E s0 H0 oa D) l 1 ⟨"BoardMachine$Signals$Timer", "isWhole", "(JI)Z"⟩ prog_93_method_3_code 4 (Option.some Jvm.ClassFile.FieldType.boolean) [.ref a0, .long a1, .int a3] M (some (.int r.1)) r.2 := by
  refine fs_method (own := "BoardMachine$Signals$Timer") rfl (by decide) K.2.1 (by rw [fe_slen]; exact (Nat.le_of_ble_eq_true rfl)) (mX32_isWhole a0 a1 a3 M r h) (hX32_isWhole) 0 rfl (L0 := [(0, .ref a0), (1, .long a1), (3, .int a3)]) (fun E => fe_args_e E [.ref a0, .long a1, .int a3] 0) ((eX32_isWhole FX32_isWhole_0 FX32_isWhole_20 FX32_isWhole_21 a0 a1 a3 M).trans h) (fe_ki_k r) (fun H hR => fs_nr_o (by decide) (by decide)) ?_
  intro p e s m args below meth c Q C hnm
  have hw : s0.WarmedH s.vm := C.2.2.2.2.1
  refine fe_all C fk_hwr cX32_isWhole [7] (by decide +kernel) (fe_fil (cps := [(7, 10, .jsr_w (7))]) (by decide +kernel) ?_)
  refine fs_c1 (fs_ldcl (pc := 7) (idx := 31) (v := 7) C (by decide +kernel) (kw K hw q3609)) ?_
  exact fs_c0
theorem hX32_isHalf : fe_H (sX32_isHalf) cX32_isHalf [0, 19, 20] fe_ki [] 20 (fun _ => dX32_isHalf FX32_isHalf_0 FX32_isHalf_19 FX32_isHalf_20) := by
  intro j pc L st M r hc h
  rcases fe_mem_c hc with rfl | hc
  · obtain ⟨w0, m0, h⟩ := fe_lR_d h
    obtain ⟨w1, m1, h⟩ := fe_lL_d h
    obtain ⟨w3, m3, h⟩ := fe_lI_d h
    obtain ⟨rfl, hz⟩ := fe_t0_d h
    exact ⟨[(0, .ref w0), (1, .long w1), (3, .int w3)], (fe_cs m0 (fe_cs m1 (fe_cs m3 fe_nl))), Or.inr ((bX32_isHalf_0 FX32_isHalf_0 FX32_isHalf_19 FX32_isHalf_20 w0 w1 w3 M).symm.trans hz)⟩
  rcases fe_mem_c hc with rfl | hc
  · obtain ⟨rfl, hz⟩ := fe_t0_d h
    exact ⟨[], fe_nl, Or.inr ((bX32_isHalf_19 FX32_isHalf_0 FX32_isHalf_19 FX32_isHalf_20 M).symm.trans hz)⟩
  rcases fe_mem_c hc with rfl | hc
  · obtain ⟨s0, t0, rfl, g0⟩ := fe_tI_d h
    obtain ⟨rfl, hz⟩ := fe_t0_d g0
    exact ⟨[], fe_nl, Or.inr ((bX32_isHalf_20 FX32_isHalf_0 FX32_isHalf_19 FX32_isHalf_20 s0 M).symm.trans hz)⟩
  exact fe_mem_0 hc
theorem vX32_isHalf : fe_SB (sX32_isHalf) := by
  refine ⟨?_, ?_, ?_, ?_⟩
  · intro i As M r h
    exact fe_no h
  · intro i As M r h
    exact fe_no h
  · intro i As M r h
    exact fe_no h
  · intro i As M r h
    exact fe_no h
theorem eX32_isHalf (g0 : Nat → Int64 → Int32 → FM → Option (Int32 × FM)) (g19 : FM → Option (Int32 × FM)) (g20 : Int32 → FM → Option (Int32 × FM)) (a0 : Nat) (a1 : Int64) (a3 : Int32) (M : FM) : dX32_isHalf g0 g19 g20 0 [(0, .ref a0), (1, .long a1), (3, .int a3)] [] M = g0 a0 a1 a3 M := by rfl
theorem mX32_isHalf (a0 : Nat) (a1 : Int64) (a3 : Int32) (M : FM) (r : Int32 × FM) (h : FX32_isHalf a0 a1 a3 M = some r) : fm_nx M ≤ fm_nx r.2 ∧ fm_ns M ≤ fm_ns r.2 :=
  fe_mono (L0 := [(0, .ref a0), (1, .long a1), (3, .int a3)]) (vX32_isHalf) (by decide +kernel) (hX32_isHalf) (fe_ki_k r) 0 rfl ((eX32_isHalf FX32_isHalf_0 FX32_isHalf_19 FX32_isHalf_20 a0 a1 a3 M).trans h)
theorem zX32_isHalf {s0 : State} {H0 : Heap} {oa : Nat → Nat} {D : va_G} (K : fk s0 H0 oa D) (l : Launch) (a0 : Nat) (a1 : Int64) (a3 : Int32) (M : FM) (r : Int32 × FM) (h : FX32_isHalf a0 a1 a3 M = some r) : fs_Con (fk_E s0 H0 oa D) l 1 ⟨"BoardMachine$Signals$Timer", "isHalf", "(JI)Z"⟩ prog_93_method_4_code 4 (Option.some Jvm.ClassFile.FieldType.boolean) [.ref a0, .long a1, .int a3] M (some (.int r.1)) r.2 := by
  refine fs_method (own := "BoardMachine$Signals$Timer") rfl (by decide) K.2.1 (by rw [fe_slen]; exact (Nat.le_of_ble_eq_true rfl)) (mX32_isHalf a0 a1 a3 M r h) (hX32_isHalf) 0 rfl (L0 := [(0, .ref a0), (1, .long a1), (3, .int a3)]) (fun E => fe_args_e E [.ref a0, .long a1, .int a3] 0) ((eX32_isHalf FX32_isHalf_0 FX32_isHalf_19 FX32_isHalf_20 a0 a1 a3 M).trans h) (fe_ki_k r) (fun H hR => fs_nr_o (by decide) (by decide)) ?_
  intro p e s m args below meth c Q C hnm
  have hw : s0.WarmedH s.vm := C.2.2.2.2.1
  refine fe_all C fk_hwr cX32_isHalf [6] (by decide +kernel) (fe_fil (cps := [(6, 9, .jsr_w (3))]) (by decide +kernel) ?_)
  refine fs_c1 (fs_ldcl (pc := 6) (idx := 33) (v := 3) C (by decide +kernel) (kw K hw q3614)) ?_
  exact fs_c0
theorem hX32_read : fe_H (sX32_read FX32_find FX32_isWhole FX32_isHalf) cX32_read [0, 29, 77, 78, 119, 120] fe_kl [] 74 (fun _ => dX32_read FX32_read_0 FX32_read_29 FX32_read_77 FX32_read_78 FX32_read_119 FX32_read_120) := by
  intro j pc L st M r hc h
  rcases fe_mem_c hc with rfl | hc
  · obtain ⟨w0, m0, h⟩ := fe_lR_d h
    obtain ⟨w1, m1, h⟩ := fe_lL_d h
    obtain ⟨w3, m3, h⟩ := fe_lI_d h
    obtain ⟨rfl, hz⟩ := fe_t0_d h
    exact ⟨[(0, .ref w0), (1, .long w1), (3, .int w3)], (fe_cs m0 (fe_cs m1 (fe_cs m3 fe_nl))), Or.inr ((bX32_read_0 FX32_find FX32_isWhole FX32_isHalf FX32_read_0 FX32_read_29 FX32_read_77 FX32_read_78 FX32_read_119 FX32_read_120 w0 w1 w3 M).symm.trans hz)⟩
  rcases fe_mem_c hc with rfl | hc
  · obtain ⟨w0, m0, h⟩ := fe_lR_d h
    obtain ⟨w1, m1, h⟩ := fe_lL_d h
    obtain ⟨w3, m3, h⟩ := fe_lI_d h
    obtain ⟨w4, m4, h⟩ := fe_lI_d h
    obtain ⟨rfl, hz⟩ := fe_t0_d h
    exact ⟨[(0, .ref w0), (1, .long w1), (3, .int w3), (4, .int w4)], (fe_cs m0 (fe_cs m1 (fe_cs m3 (fe_cs m4 fe_nl)))), Or.inr ((bX32_read_29 FX32_find FX32_isWhole FX32_isHalf FX32_read_0 FX32_read_29 FX32_read_77 FX32_read_78 FX32_read_119 FX32_read_120 w0 w1 w3 w4 M).symm.trans hz)⟩
  rcases fe_mem_c hc with rfl | hc
  · obtain ⟨s0, t0, rfl, g0⟩ := fe_tL_d h
    obtain ⟨rfl, hz⟩ := fe_t0_d g0
    exact ⟨[], fe_nl, Or.inr ((bX32_read_77 FX32_find FX32_isWhole FX32_isHalf FX32_read_0 FX32_read_29 FX32_read_77 FX32_read_78 FX32_read_119 FX32_read_120 s0 M).symm.trans hz)⟩
  rcases fe_mem_c hc with rfl | hc
  · obtain ⟨w0, m0, h⟩ := fe_lR_d h
    obtain ⟨w1, m1, h⟩ := fe_lL_d h
    obtain ⟨w3, m3, h⟩ := fe_lI_d h
    obtain ⟨w4, m4, h⟩ := fe_lI_d h
    obtain ⟨rfl, hz⟩ := fe_t0_d h
    exact ⟨[(0, .ref w0), (1, .long w1), (3, .int w3), (4, .int w4)], (fe_cs m0 (fe_cs m1 (fe_cs m3 (fe_cs m4 fe_nl)))), Or.inr ((bX32_read_78 FX32_find FX32_isWhole FX32_isHalf FX32_read_0 FX32_read_29 FX32_read_77 FX32_read_78 FX32_read_119 FX32_read_120 w0 w1 w3 w4 M).symm.trans hz)⟩
  rcases fe_mem_c hc with rfl | hc
  · obtain ⟨rfl, hz⟩ := fe_t0_d h
    exact ⟨[], fe_nl, Or.inr ((bX32_read_119 FX32_find FX32_isWhole FX32_isHalf FX32_read_0 FX32_read_29 FX32_read_77 FX32_read_78 FX32_read_119 FX32_read_120 M).symm.trans hz)⟩
  rcases fe_mem_c hc with rfl | hc
  · obtain ⟨s0, t0, rfl, g0⟩ := fe_tL_d h
    obtain ⟨rfl, hz⟩ := fe_t0_d g0
    exact ⟨[], fe_nl, Or.inr ((bX32_read_120 FX32_find FX32_isWhole FX32_isHalf FX32_read_0 FX32_read_29 FX32_read_77 FX32_read_78 FX32_read_119 FX32_read_120 s0 M).symm.trans hz)⟩
  exact fe_mem_0 hc
theorem vX32_read : fe_SB (sX32_read FX32_find FX32_isWhole FX32_isHalf) := by
  refine ⟨?_, ?_, ?_, ?_⟩
  · intro i As M r h
    exact fe_no h
  · intro i As M r h
    rcases fe_bc h with h | h
    · obtain ⟨v0, t0, rfl, g0⟩ := fe_tR_d h
      obtain ⟨v1, t1, rfl, g1⟩ := fe_tL_d g0
      obtain ⟨rfl, hz⟩ := fe_t0_d g1
      exact mX32_find v0 v1 M r hz
    rcases fe_bc h with h | h
    · obtain ⟨v0, t0, rfl, g0⟩ := fe_tR_d h
      obtain ⟨v1, t1, rfl, g1⟩ := fe_tL_d g0
      obtain ⟨v2, t2, rfl, g2⟩ := fe_tI_d g1
      obtain ⟨rfl, hz⟩ := fe_t0_d g2
      exact mX32_isWhole v0 v1 v2 M r hz
    rcases fe_bc h with h | h
    · obtain ⟨v0, t0, rfl, g0⟩ := fe_tR_d h
      obtain ⟨v1, t1, rfl, g1⟩ := fe_tL_d g0
      obtain ⟨v2, t2, rfl, g2⟩ := fe_tI_d g1
      obtain ⟨rfl, hz⟩ := fe_t0_d g2
      exact mX32_isHalf v0 v1 v2 M r hz
    exact fe_no h
  · intro i As M r h
    exact fe_no h
  · intro i As M r h
    exact fe_no h
theorem eX32_read (g0 : Nat → Int64 → Int32 → FM → Option (Int64 × FM)) (g29 : Nat → Int64 → Int32 → Int32 → FM → Option (Int64 × FM)) (g77 : Int64 → FM → Option (Int64 × FM)) (g78 : Nat → Int64 → Int32 → Int32 → FM → Option (Int64 × FM)) (g119 : FM → Option (Int64 × FM)) (g120 : Int64 → FM → Option (Int64 × FM)) (a0 : Nat) (a1 : Int64) (a3 : Int32) (M : FM) : dX32_read g0 g29 g77 g78 g119 g120 0 [(0, .ref a0), (1, .long a1), (3, .int a3)] [] M = g0 a0 a1 a3 M := by rfl
theorem mX32_read (a0 : Nat) (a1 : Int64) (a3 : Int32) (M : FM) (r : Int64 × FM) (h : FX32_read a0 a1 a3 M = some r) : fm_nx M ≤ fm_nx r.2 ∧ fm_ns M ≤ fm_ns r.2 :=
  fe_mono (L0 := [(0, .ref a0), (1, .long a1), (3, .int a3)]) (vX32_read) (by decide +kernel) (hX32_read) (fe_kl_k r) 0 rfl ((eX32_read FX32_read_0 FX32_read_29 FX32_read_77 FX32_read_78 FX32_read_119 FX32_read_120 a0 a1 a3 M).trans h)
theorem zX32_read {s0 : State} {H0 : Heap} {oa : Nat → Nat} {D : va_G} (K : fk s0 H0 oa D) (l : Launch) (a0 : Nat) (a1 : Int64) (a3 : Int32) (M : FM) (r : Int64 × FM) (h : FX32_read a0 a1 a3 M = some r) : fs_Con (fk_E s0 H0 oa D) l 2 ⟨"BoardMachine$Signals$Timer", "read", "(JI)J"⟩ prog_93_method_5_code 5 (Option.some Jvm.ClassFile.FieldType.long) [.ref a0, .long a1, .int a3] M (some (.long r.1)) r.2 := by
  have o0 : fs_OS (sX32_read FX32_find FX32_isWhole FX32_isHalf) 0 1 (fs_Con (fk_E s0 H0 oa D) l 1 ⟨"BoardMachine$Signals$Timer", "find", "(J)I"⟩ prog_93_method_2_code 5 (Option.some Jvm.ClassFile.FieldType.int)) := by
    intro As M r h
    obtain ⟨v0, t0, rfl, g0⟩ := fe_tR_d h
    obtain ⟨v1, t1, rfl, g1⟩ := fe_tL_d g0
    obtain ⟨rfl, hz⟩ := fe_t0_d g1
    exact zX32_find K l v0 v1 M r hz
  have o1 : fs_OS (sX32_read FX32_find FX32_isWhole FX32_isHalf) 1 1 (fs_Con (fk_E s0 H0 oa D) l 1 ⟨"BoardMachine$Signals$Timer", "isWhole", "(JI)Z"⟩ prog_93_method_3_code 4 (Option.some Jvm.ClassFile.FieldType.boolean)) := by
    intro As M r h
    obtain ⟨v0, t0, rfl, g0⟩ := fe_tR_d h
    obtain ⟨v1, t1, rfl, g1⟩ := fe_tL_d g0
    obtain ⟨v2, t2, rfl, g2⟩ := fe_tI_d g1
    obtain ⟨rfl, hz⟩ := fe_t0_d g2
    exact zX32_isWhole K l v0 v1 v2 M r hz
  have o2 : fs_OS (sX32_read FX32_find FX32_isWhole FX32_isHalf) 2 1 (fs_Con (fk_E s0 H0 oa D) l 1 ⟨"BoardMachine$Signals$Timer", "isHalf", "(JI)Z"⟩ prog_93_method_4_code 4 (Option.some Jvm.ClassFile.FieldType.boolean)) := by
    intro As M r h
    obtain ⟨v0, t0, rfl, g0⟩ := fe_tR_d h
    obtain ⟨v1, t1, rfl, g1⟩ := fe_tL_d g0
    obtain ⟨v2, t2, rfl, g2⟩ := fe_tI_d g1
    obtain ⟨rfl, hz⟩ := fe_t0_d g2
    exact zX32_isHalf K l v0 v1 v2 M r hz
  refine fs_method (own := "BoardMachine$Signals$Timer") rfl (by decide) K.2.1 (by rw [fe_slen]; exact (Nat.le_of_ble_eq_true rfl)) (mX32_read a0 a1 a3 M r h) (hX32_read) 0 rfl (L0 := [(0, .ref a0), (1, .long a1), (3, .int a3)]) (fun E => fe_args_e E [.ref a0, .long a1, .int a3] 0) ((eX32_read FX32_read_0 FX32_read_29 FX32_read_77 FX32_read_78 FX32_read_119 FX32_read_120 a0 a1 a3 M).trans h) (fe_kl_k r) (fun H hR => fs_nr_o (by decide) (by decide)) ?_
  intro p e s m args below meth c Q C hnm
  have hw : s0.WarmedH s.vm := C.2.2.2.2.1
  refine fe_all C fk_hwr cX32_read [2, 15, 22, 37, 44, 54, 60, 68, 86, 93, 97, 107] (by decide +kernel) (fe_fil (cps := [(2, 5, .invokevirtual 9519184), (15, 18, .invokevirtual 80822352), (22, 25, .getfield 1032126786), (37, 40, .invokevirtual 147931216), (44, 47, .jsr_w (4)), (54, 57, .getfield 1032126786), (60, 63, .jsr_w (4294967295)), (68, 71, .getfield 1032126786), (86, 89, .invokevirtual 147931216), (93, 96, .jsr_w (4)), (97, 100, .getfield 1023738176), (107, 110, .getfield 1027932482)]) (by decide +kernel) ?_)
  refine fs_c1 (fs_inv_virtual (pc := 2) (n := 9519184) C (Nat.le_of_ble_eq_true rfl) (Nat.le_of_ble_eq_true rfl) (fs_lk_virtual (idx := 35) (y := ⟨"BoardMachine$Signals$Timer", "find", "(J)I"⟩) (bytes := prog_93_method_2_code) (maxL := 5) (rt := (Option.some Jvm.ClassFile.FieldType.int)) (d := 1) C (Nat.le_of_ble_eq_true rfl) (Nat.le_of_ble_eq_true rfl) (by decide +kernel) (kw K hw q3601) (kw K hw q343) (kw K hw q3600) (Or.inl (kw K hw q3598)) ⟨by decide, by decide⟩ rfl (Nat.le_of_ble_eq_true rfl) (Nat.le_of_ble_eq_true rfl) (fs_one (⟨_, rfl, kw K hw qs74⟩))) fs_con_mono o0) ?_
  refine fs_c1 (fs_inv_virtual (pc := 15) (n := 80822352) C (Nat.le_of_ble_eq_true rfl) (Nat.le_of_ble_eq_true rfl) (fs_lk_virtual (idx := 39) (y := ⟨"BoardMachine$Signals$Timer", "isWhole", "(JI)Z"⟩) (bytes := prog_93_method_3_code) (maxL := 4) (rt := (Option.some Jvm.ClassFile.FieldType.boolean)) (d := 1) C (Nat.le_of_ble_eq_true rfl) (Nat.le_of_ble_eq_true rfl) (by decide +kernel) (kw K hw q3608) (kw K hw q343) (kw K hw q3607) (Or.inl (kw K hw q3605)) ⟨by decide, by decide⟩ rfl (Nat.le_of_ble_eq_true rfl) (Nat.le_of_ble_eq_true rfl) (fs_one (⟨_, rfl, kw K hw qs75⟩))) fs_con_mono o1) ?_
  refine fs_c1 (fs_getf (pc := 22) (n := 1032126786) (idx := 17) (ref := "BoardMachine$Signals$Timer") (O := "BoardMachine$Signals$Timer") (name := "numbers") (desc := "[J") C (by decide +kernel) (Or.inl (kw K hw q979)) (fun _ h => h) (Nat.le_of_ble_eq_true rfl) (Nat.le_of_ble_eq_true rfl) (fs_one (⟨_, ff_80_246 s0 H0 oa D⟩))) ?_
  refine fs_c1 (fs_inv_virtual (pc := 37) (n := 147931216) C (Nat.le_of_ble_eq_true rfl) (Nat.le_of_ble_eq_true rfl) (fs_lk_virtual (idx := 43) (y := ⟨"BoardMachine$Signals$Timer", "isHalf", "(JI)Z"⟩) (bytes := prog_93_method_4_code) (maxL := 4) (rt := (Option.some Jvm.ClassFile.FieldType.boolean)) (d := 1) C (Nat.le_of_ble_eq_true rfl) (Nat.le_of_ble_eq_true rfl) (by decide +kernel) (kw K hw q3613) (kw K hw q343) (kw K hw q3612) (Or.inl (kw K hw q3610)) ⟨by decide, by decide⟩ rfl (Nat.le_of_ble_eq_true rfl) (Nat.le_of_ble_eq_true rfl) (fs_one (⟨_, rfl, kw K hw qs76⟩))) fs_con_mono o2) ?_
  refine fs_c1 (fs_ldcl (pc := 44) (idx := 46) (v := 4) C (by decide +kernel) (kw K hw q3615)) ?_
  refine fs_c1 (fs_getf (pc := 54) (n := 1032126786) (idx := 17) (ref := "BoardMachine$Signals$Timer") (O := "BoardMachine$Signals$Timer") (name := "numbers") (desc := "[J") C (by decide +kernel) (Or.inl (kw K hw q979)) (fun _ h => h) (Nat.le_of_ble_eq_true rfl) (Nat.le_of_ble_eq_true rfl) (fs_one (⟨_, ff_80_246 s0 H0 oa D⟩))) ?_
  refine fs_c1 (fs_ldcl (pc := 60) (idx := 48) (v := 4294967295) C (by decide +kernel) (kw K hw q3616)) ?_
  refine fs_c1 (fs_getf (pc := 68) (n := 1032126786) (idx := 17) (ref := "BoardMachine$Signals$Timer") (O := "BoardMachine$Signals$Timer") (name := "numbers") (desc := "[J") C (by decide +kernel) (Or.inl (kw K hw q979)) (fun _ h => h) (Nat.le_of_ble_eq_true rfl) (Nat.le_of_ble_eq_true rfl) (fs_one (⟨_, ff_80_246 s0 H0 oa D⟩))) ?_
  refine fs_c1 (fs_inv_virtual (pc := 86) (n := 147931216) C (Nat.le_of_ble_eq_true rfl) (Nat.le_of_ble_eq_true rfl) (fs_lk_virtual (idx := 43) (y := ⟨"BoardMachine$Signals$Timer", "isHalf", "(JI)Z"⟩) (bytes := prog_93_method_4_code) (maxL := 4) (rt := (Option.some Jvm.ClassFile.FieldType.boolean)) (d := 1) C (Nat.le_of_ble_eq_true rfl) (Nat.le_of_ble_eq_true rfl) (by decide +kernel) (kw K hw q3613) (kw K hw q343) (kw K hw q3612) (Or.inl (kw K hw q3610)) ⟨by decide, by decide⟩ rfl (Nat.le_of_ble_eq_true rfl) (Nat.le_of_ble_eq_true rfl) (fs_one (⟨_, rfl, kw K hw qs76⟩))) fs_con_mono o2) ?_
  refine fs_c1 (fs_ldcl (pc := 93) (idx := 46) (v := 4) C (by decide +kernel) (kw K hw q3615)) ?_
  refine fs_c1 (fs_getf (pc := 97) (n := 1023738176) (idx := 21) (ref := "BoardMachine$Signals$Timer") (O := "BoardMachine$Signals$Timer") (name := "processors") (desc := "I") C (by decide +kernel) (Or.inl (kw K hw q976)) (fun _ h => h) (Nat.le_of_ble_eq_true rfl) (Nat.le_of_ble_eq_true rfl) (fs_one (⟨_, ff_80_244 s0 H0 oa D⟩))) ?_
  refine fs_c1 (fs_getf (pc := 107) (n := 1027932482) (idx := 9) (ref := "BoardMachine$Signals$Timer") (O := "BoardMachine$Signals$Timer") (name := "soft") (desc := "[I") C (by decide +kernel) (Or.inl (kw K hw q977)) (fun _ h => h) (Nat.le_of_ble_eq_true rfl) (Nat.le_of_ble_eq_true rfl) (fs_one (⟨_, ff_80_245 s0 H0 oa D⟩))) ?_
  exact fs_c0
theorem hX33_look : fe_H (sX33_look) cX33_look [0] fe_kv [] 20 (fun _ => dX33_look FX33_look_0) := by
  intro j pc L st M r hc h
  rcases fe_mem_c hc with rfl | hc
  · obtain ⟨w0, m0, h⟩ := fe_lR_d h
    obtain ⟨rfl, hz⟩ := fe_t0_d h
    exact ⟨[(0, .ref w0)], (fe_cs m0 fe_nl), Or.inr ((bX33_look_0 FX33_look_0 w0 M).symm.trans hz)⟩
  exact fe_mem_0 hc
theorem vX33_look : fe_SB (sX33_look) := by
  refine ⟨?_, ?_, ?_, ?_⟩
  · intro i As M r h
    exact fe_no h
  · intro i As M r h
    exact fe_no h
  · intro i As M r h
    exact fe_no h
  · intro i As M r h
    exact fe_no h
theorem eX33_look (g0 : Nat → FM → Option (FM)) (a0 : Nat) (M : FM) : dX33_look g0 0 [(0, .ref a0)] [] M = g0 a0 M := by rfl
theorem mX33_look (a0 : Nat) (M : FM) (r : FM) (h : FX33_look a0 M = some r) : fm_nx M ≤ fm_nx r ∧ fm_ns M ≤ fm_ns r :=
  fe_mono (L0 := [(0, .ref a0)]) (vX33_look) (by decide +kernel) (hX33_look) (fe_kv_k r) 0 rfl ((eX33_look FX33_look_0 a0 M).trans h)
theorem zX33_look {s0 : State} {H0 : Heap} {oa : Nat → Nat} {D : va_G} (K : fk s0 H0 oa D) (l : Launch) (a0 : Nat) (M : FM) (r : FM) (h : FX33_look a0 M = some r) : fs_Con (fk_E s0 H0 oa D) l 1 ⟨"BoardMachine$Signals$Controller", "look", "()V"⟩ prog_89_method_2_code 1 (Option.none : Option Jvm.ClassFile.FieldType) [.ref a0] M none r := by
  refine fs_method (own := "BoardMachine$Signals$Controller") rfl (by decide) K.2.1 (by rw [fe_slen]; exact (Nat.le_of_ble_eq_true rfl)) (mX33_look a0 M r h) (hX33_look) 0 rfl (L0 := [(0, .ref a0)]) (fun E => fe_args_e E [.ref a0] 0) ((eX33_look FX33_look_0 a0 M).trans h) (fe_kv_k r) (fun H hR => fs_nr_o (by decide) (by decide)) ?_
  intro p e s m args below meth c Q C hnm
  have hw : s0.WarmedH s.vm := C.2.2.2.2.1
  refine fe_all C fk_hwr cX33_look [2, 6, 10, 17] (by decide +kernel) (fe_fil (cps := [(2, 5, .getfield 956617012), (6, 9, .getfield 952422708), (10, 13, .getfield 960811316), (17, 20, .putfield 956617012)]) (by decide +kernel) ?_)
  refine fs_c1 (fs_getf (pc := 2) (n := 956617012) (idx := 25) (ref := "BoardMachine$Signals$Controller") (O := "BoardMachine$Signals$Controller") (name := "waiting") (desc := "I") C (by decide +kernel) (Or.inl (kw K hw q999)) (fun _ h => h) (Nat.le_of_ble_eq_true rfl) (Nat.le_of_ble_eq_true rfl) (fs_one (⟨_, ff_77_228 s0 H0 oa D⟩))) ?_
  refine fs_c1 (fs_getf (pc := 6) (n := 952422708) (idx := 28) (ref := "BoardMachine$Signals$Controller") (O := "BoardMachine$Signals$Controller") (name := "signals") (desc := "I") C (by decide +kernel) (Or.inl (kw K hw q998)) (fun _ h => h) (Nat.le_of_ble_eq_true rfl) (Nat.le_of_ble_eq_true rfl) (fs_one (⟨_, ff_77_227 s0 H0 oa D⟩))) ?_
  refine fs_c1 (fs_getf (pc := 10) (n := 960811316) (idx := 31) (ref := "BoardMachine$Signals$Controller") (O := "BoardMachine$Signals$Controller") (name := "served") (desc := "I") C (by decide +kernel) (Or.inl (kw K hw q1000)) (fun _ h => h) (Nat.le_of_ble_eq_true rfl) (Nat.le_of_ble_eq_true rfl) (fs_one (⟨_, ff_77_229 s0 H0 oa D⟩))) ?_
  refine fs_c1 (fs_putf (pc := 17) (n := 956617012) (idx := 25) (ref := "BoardMachine$Signals$Controller") (O := "BoardMachine$Signals$Controller") (name := "waiting") (desc := "I") (fin := false) (ty := .int) C (by decide +kernel) (Or.inl ⟨rfl, Or.inl (kw K hw q999)⟩) (fun _ h => h) (Nat.le_of_ble_eq_true rfl) (Nat.le_of_ble_eq_true rfl) (Nat.le_of_ble_eq_true rfl) rfl rfl (by decide) (fs_one (⟨rfl, ff_77_228 s0 H0 oa D⟩))) ?_
  exact fs_c0
theorem hX33_signal : fe_H (sX33_signal FX33_look) cX33_signal [0, 26] fe_kv [] 27 (fun _ => dX33_signal FX33_signal_0 FX33_signal_26) := by
  intro j pc L st M r hc h
  rcases fe_mem_c hc with rfl | hc
  · obtain ⟨w0, m0, h⟩ := fe_lR_d h
    obtain ⟨w1, m1, h⟩ := fe_lI_d h
    obtain ⟨w2, m2, h⟩ := fe_lI_d h
    obtain ⟨rfl, hz⟩ := fe_t0_d h
    exact ⟨[(0, .ref w0), (1, .int w1), (2, .int w2)], (fe_cs m0 (fe_cs m1 (fe_cs m2 fe_nl))), Or.inr ((bX33_signal_0 FX33_look FX33_signal_0 FX33_signal_26 w0 w1 w2 M).symm.trans hz)⟩
  rcases fe_mem_c hc with rfl | hc
  · obtain ⟨w0, m0, h⟩ := fe_lR_d h
    obtain ⟨s1, t1, rfl, g1⟩ := fe_tI_d h
    obtain ⟨s0, t0, rfl, g0⟩ := fe_tR_d g1
    obtain ⟨rfl, hz⟩ := fe_t0_d g0
    exact ⟨[(0, .ref w0)], (fe_cs m0 fe_nl), Or.inr ((bX33_signal_26 FX33_look FX33_signal_0 FX33_signal_26 w0 s0 s1 M).symm.trans hz)⟩
  exact fe_mem_0 hc
theorem vX33_signal : fe_SB (sX33_signal FX33_look) := by
  refine ⟨?_, ?_, ?_, ?_⟩
  · intro i As M r h
    rcases fe_bc h with h | h
    · obtain ⟨v0, t0, rfl, g0⟩ := fe_tR_d h
      obtain ⟨rfl, hz⟩ := fe_t0_d g0
      exact mX33_look v0 M r hz
    exact fe_no h
  · intro i As M r h
    exact fe_no h
  · intro i As M r h
    exact fe_no h
  · intro i As M r h
    exact fe_no h
theorem eX33_signal (g0 : Nat → Int32 → Int32 → FM → Option (FM)) (g26 : Nat → Nat → Int32 → FM → Option (FM)) (a0 : Nat) (a1 : Int32) (a2 : Int32) (M : FM) : dX33_signal g0 g26 0 [(0, .ref a0), (1, .int a1), (2, .int a2)] [] M = g0 a0 a1 a2 M := by rfl
theorem mX33_signal (a0 : Nat) (a1 : Int32) (a2 : Int32) (M : FM) (r : FM) (h : FX33_signal a0 a1 a2 M = some r) : fm_nx M ≤ fm_nx r ∧ fm_ns M ≤ fm_ns r :=
  fe_mono (L0 := [(0, .ref a0), (1, .int a1), (2, .int a2)]) (vX33_signal) (by decide +kernel) (hX33_signal) (fe_kv_k r) 0 rfl ((eX33_signal FX33_signal_0 FX33_signal_26 a0 a1 a2 M).trans h)
theorem zX33_signal {s0 : State} {H0 : Heap} {oa : Nat → Nat} {D : va_G} (K : fk s0 H0 oa D) (l : Launch) (a0 : Nat) (a1 : Int32) (a2 : Int32) (M : FM) (r : FM) (h : FX33_signal a0 a1 a2 M = some r) : fs_Con (fk_E s0 H0 oa D) l 2 ⟨"BoardMachine$Signals$Controller", "signal", "(IZ)V"⟩ prog_89_method_3_code 3 (Option.none : Option Jvm.ClassFile.FieldType) [.ref a0, .int a1, .int a2] M none r := by
  have o0 : fs_OS (sX33_signal FX33_look) 0 0 (fs_Con (fk_E s0 H0 oa D) l 1 ⟨"BoardMachine$Signals$Controller", "look", "()V"⟩ prog_89_method_2_code 1 (Option.none : Option Jvm.ClassFile.FieldType)) := by
    intro As M r h
    obtain ⟨v0, t0, rfl, g0⟩ := fe_tR_d h
    obtain ⟨rfl, hz⟩ := fe_t0_d g0
    exact zX33_look K l v0 M r hz
  refine fs_method (own := "BoardMachine$Signals$Controller") rfl (by decide) K.2.1 (by rw [fe_slen]; exact (Nat.le_of_ble_eq_true rfl)) (mX33_signal a0 a1 a2 M r h) (hX33_signal) 0 rfl (L0 := [(0, .ref a0), (1, .int a1), (2, .int a2)]) (fun E => fe_args_e E [.ref a0, .int a1, .int a2] 0) ((eX33_signal FX33_signal_0 FX33_signal_26 a0 a1 a2 M).trans h) (fe_kv_k r) (fun H hR => fs_nr_o (by decide) (by decide)) ?_
  intro p e s m args below meth c Q C hnm
  have hw : s0.WarmedH s.vm := C.2.2.2.2.1
  refine fe_all C fk_hwr cX33_signal [6, 17, 26, 30] (by decide +kernel) (fe_fil (cps := [(6, 9, .getfield 952422708), (17, 20, .getfield 952422708), (26, 29, .putfield 952422708), (30, 33, .invokevirtual 4273229)]) (by decide +kernel) ?_)
  refine fs_c1 (fs_getf (pc := 6) (n := 952422708) (idx := 28) (ref := "BoardMachine$Signals$Controller") (O := "BoardMachine$Signals$Controller") (name := "signals") (desc := "I") C (by decide +kernel) (Or.inl (kw K hw q998)) (fun _ h => h) (Nat.le_of_ble_eq_true rfl) (Nat.le_of_ble_eq_true rfl) (fs_one (⟨_, ff_77_227 s0 H0 oa D⟩))) ?_
  refine fs_c1 (fs_getf (pc := 17) (n := 952422708) (idx := 28) (ref := "BoardMachine$Signals$Controller") (O := "BoardMachine$Signals$Controller") (name := "signals") (desc := "I") C (by decide +kernel) (Or.inl (kw K hw q998)) (fun _ h => h) (Nat.le_of_ble_eq_true rfl) (Nat.le_of_ble_eq_true rfl) (fs_one (⟨_, ff_77_227 s0 H0 oa D⟩))) ?_
  refine fs_c1 (fs_putf (pc := 26) (n := 952422708) (idx := 28) (ref := "BoardMachine$Signals$Controller") (O := "BoardMachine$Signals$Controller") (name := "signals") (desc := "I") (fin := false) (ty := .int) C (by decide +kernel) (Or.inl ⟨rfl, Or.inl (kw K hw q998)⟩) (fun _ h => h) (Nat.le_of_ble_eq_true rfl) (Nat.le_of_ble_eq_true rfl) (Nat.le_of_ble_eq_true rfl) rfl rfl (by decide) (fs_one (⟨rfl, ff_77_227 s0 H0 oa D⟩))) ?_
  refine fs_c1 (fs_inv_virtual (pc := 30) (n := 4273229) C (Nat.le_of_ble_eq_true rfl) (Nat.le_of_ble_eq_true rfl) (fs_lk_virtual (idx := 34) (y := ⟨"BoardMachine$Signals$Controller", "look", "()V"⟩) (bytes := prog_89_method_2_code) (maxL := 1) (rt := (Option.none : Option Jvm.ClassFile.FieldType)) (d := 1) C (Nat.le_of_ble_eq_true rfl) (Nat.le_of_ble_eq_true rfl) (by decide +kernel) (kw K hw q3629) (kw K hw q344) (kw K hw q3628) (Or.inl (kw K hw q3626)) ⟨by decide, by decide⟩ rfl (Nat.le_of_ble_eq_true rfl) (Nat.le_of_ble_eq_true rfl) (fs_one (⟨_, rfl, kw K hw qs78⟩))) fs_con_mono o0) ?_
  exact fs_c0
theorem hX30_look : fe_H (sX30_look FX31_cause FX33_signal) cX30_look [0, 22] fe_kv [] 20 (fun _ => dX30_look FX30_look_0 FX30_look_22) := by
  intro j pc L st M r hc h
  rcases fe_mem_c hc with rfl | hc
  · obtain ⟨w0, m0, h⟩ := fe_lR_d h
    obtain ⟨rfl, hz⟩ := fe_t0_d h
    exact ⟨[(0, .ref w0)], (fe_cs m0 fe_nl), Or.inr ((bX30_look_0 FX31_cause FX33_signal FX30_look_0 FX30_look_22 w0 M).symm.trans hz)⟩
  rcases fe_mem_c hc with rfl | hc
  · obtain ⟨s2, t2, rfl, g2⟩ := fe_tI_d h
    obtain ⟨s1, t1, rfl, g1⟩ := fe_tI_d g2
    obtain ⟨s0, t0, rfl, g0⟩ := fe_tR_d g1
    obtain ⟨rfl, hz⟩ := fe_t0_d g0
    exact ⟨[], fe_nl, Or.inr ((bX30_look_22 FX31_cause FX33_signal FX30_look_0 FX30_look_22 s0 s1 s2 M).symm.trans hz)⟩
  exact fe_mem_0 hc
theorem vX30_look : fe_SB (sX30_look FX31_cause FX33_signal) := by
  refine ⟨?_, ?_, ?_, ?_⟩
  · intro i As M r h
    rcases fe_bc h with h | h
    · obtain ⟨v0, t0, rfl, g0⟩ := fe_tR_d h
      obtain ⟨v1, t1, rfl, g1⟩ := fe_tI_d g0
      obtain ⟨v2, t2, rfl, g2⟩ := fe_tI_d g1
      obtain ⟨rfl, hz⟩ := fe_t0_d g2
      exact mX33_signal v0 v1 v2 M r hz
    exact fe_no h
  · intro i As M r h
    rcases fe_bc h with h | h
    · obtain ⟨v0, t0, rfl, g0⟩ := fe_tR_d h
      obtain ⟨rfl, hz⟩ := fe_t0_d g0
      exact mX31_cause v0 M r hz
    exact fe_no h
  · intro i As M r h
    exact fe_no h
  · intro i As M r h
    exact fe_no h
theorem eX30_look (g0 : Nat → FM → Option (FM)) (g22 : Nat → Int32 → Int32 → FM → Option (FM)) (a0 : Nat) (M : FM) : dX30_look g0 g22 0 [(0, .ref a0)] [] M = g0 a0 M := by rfl
theorem mX30_look (a0 : Nat) (M : FM) (r : FM) (h : FX30_look a0 M = some r) : fm_nx M ≤ fm_nx r ∧ fm_ns M ≤ fm_ns r :=
  fe_mono (L0 := [(0, .ref a0)]) (vX30_look) (by decide +kernel) (hX30_look) (fe_kv_k r) 0 rfl ((eX30_look FX30_look_0 FX30_look_22 a0 M).trans h)
theorem zX30_look {s0 : State} {H0 : Heap} {oa : Nat → Nat} {D : va_G} (K : fk s0 H0 oa D) (l : Launch) (a0 : Nat) (M : FM) (r : FM) (h : FX30_look a0 M = some r) : fs_Con (fk_E s0 H0 oa D) l 3 ⟨"BoardMachine$Signals$SignalUnit", "look", "()V"⟩ prog_92_method_2_code 1 (Option.none : Option Jvm.ClassFile.FieldType) [.ref a0] M none r := by
  have o0 : fs_OS (sX30_look FX31_cause FX33_signal) 0 1 (fs_Con (fk_E s0 H0 oa D) l 2 ⟨"BoardMachine$Signals$Serial", "cause", "()I"⟩ prog_91_method_6_code 1 (Option.some Jvm.ClassFile.FieldType.int)) := by
    intro As M r h
    obtain ⟨v0, t0, rfl, g0⟩ := fe_tR_d h
    obtain ⟨rfl, hz⟩ := fe_t0_d g0
    exact zX31_cause K l v0 M r hz
  have o1 : fs_OS (sX30_look FX31_cause FX33_signal) 1 0 (fs_Con (fk_E s0 H0 oa D) l 2 ⟨"BoardMachine$Signals$Controller", "signal", "(IZ)V"⟩ prog_89_method_3_code 3 (Option.none : Option Jvm.ClassFile.FieldType)) := by
    intro As M r h
    obtain ⟨v0, t0, rfl, g0⟩ := fe_tR_d h
    obtain ⟨v1, t1, rfl, g1⟩ := fe_tI_d g0
    obtain ⟨v2, t2, rfl, g2⟩ := fe_tI_d g1
    obtain ⟨rfl, hz⟩ := fe_t0_d g2
    exact zX33_signal K l v0 v1 v2 M r hz
  refine fs_method (own := "BoardMachine$Signals$SignalUnit") rfl (by decide) K.2.1 (by rw [fe_slen]; exact (Nat.le_of_ble_eq_true rfl)) (mX30_look a0 M r h) (hX30_look) 0 rfl (L0 := [(0, .ref a0)]) (fun E => fe_args_e E [.ref a0] 0) ((eX30_look FX30_look_0 FX30_look_22 a0 M).trans h) (fe_kv_k r) (fun H hR => fs_nr_o (by decide) (by decide)) ?_
  intro p e s m args below meth c Q C hnm
  have hw : s0.WarmedH s.vm := C.2.2.2.2.1
  refine fe_all C fk_hwr cX30_look [1, 7, 10, 22] (by decide +kernel) (fe_fil (cps := [(1, 4, .getfield 1011151166), (7, 10, .getfield 1015345470), (10, 13, .invokevirtual 5322830), (22, 25, .invokevirtual 79770701)]) (by decide +kernel) ?_)
  refine fs_c1 (fs_getf (pc := 1) (n := 1011151166) (idx := 40) (ref := "BoardMachine$Signals$SignalUnit") (O := "BoardMachine$Signals$SignalUnit") (name := "controller") (desc := "LBoardMachine$Signals$Controller;") C (by decide +kernel) (Or.inl (kw K hw q1019)) (fun _ h => h) (Nat.le_of_ble_eq_true rfl) (Nat.le_of_ble_eq_true rfl) (fs_one (⟨_, ff_79_241 s0 H0 oa D⟩))) ?_
  refine fs_c1 (fs_getf (pc := 7) (n := 1015345470) (idx := 12) (ref := "BoardMachine$Signals$SignalUnit") (O := "BoardMachine$Signals$SignalUnit") (name := "serial") (desc := "LBoardMachine$Signals$Serial;") C (by decide +kernel) (Or.inl (kw K hw q1021)) (fun _ h => h) (Nat.le_of_ble_eq_true rfl) (Nat.le_of_ble_eq_true rfl) (fs_one (⟨_, ff_79_242 s0 H0 oa D⟩))) ?_
  refine fs_c1 (fs_inv_virtual (pc := 10) (n := 5322830) C (Nat.le_of_ble_eq_true rfl) (Nat.le_of_ble_eq_true rfl) (fs_lk_virtual (idx := 44) (y := ⟨"BoardMachine$Signals$Serial", "cause", "()I"⟩) (bytes := prog_91_method_6_code) (maxL := 1) (rt := (Option.some Jvm.ClassFile.FieldType.int)) (d := 2) C (Nat.le_of_ble_eq_true rfl) (Nat.le_of_ble_eq_true rfl) (by decide +kernel) (kw K hw q3583) (kw K hw q342) (kw K hw q3581) (Or.inl (kw K hw q3621)) ⟨by decide, by decide⟩ rfl (Nat.le_of_ble_eq_true rfl) (Nat.le_of_ble_eq_true rfl) (fs_one (⟨_, rfl, kw K hw q3582⟩))) fs_con_mono o0) ?_
  refine fs_c1 (fs_inv_virtual (pc := 22) (n := 79770701) C (Nat.le_of_ble_eq_true rfl) (Nat.le_of_ble_eq_true rfl) (fs_lk_virtual (idx := 48) (y := ⟨"BoardMachine$Signals$Controller", "signal", "(IZ)V"⟩) (bytes := prog_89_method_3_code) (maxL := 3) (rt := (Option.none : Option Jvm.ClassFile.FieldType)) (d := 2) C (Nat.le_of_ble_eq_true rfl) (Nat.le_of_ble_eq_true rfl) (by decide +kernel) (kw K hw q3625) (kw K hw q344) (kw K hw q3623) (Or.inl (kw K hw q3622)) ⟨by decide, by decide⟩ rfl (Nat.le_of_ble_eq_true rfl) (Nat.le_of_ble_eq_true rfl) (fs_one (⟨_, rfl, kw K hw q3624⟩))) fs_con_mono o1) ?_
  exact fs_c0
theorem hX30_read (n : Nat) : fe_H (sX30_read (FX33_read n) FX31_read FX32_read FX30_look) cX30_read [0] fe_kl [] 20 (fun _ => dX30_read (FX30_read_0 n)) := by
  intro j pc L st M r hc h
  rcases fe_mem_c hc with rfl | hc
  · obtain ⟨w0, m0, h⟩ := fe_lR_d h
    obtain ⟨w1, m1, h⟩ := fe_lI_d h
    obtain ⟨w2, m2, h⟩ := fe_lL_d h
    obtain ⟨w4, m4, h⟩ := fe_lI_d h
    obtain ⟨rfl, hz⟩ := fe_t0_d h
    exact ⟨[(0, .ref w0), (1, .int w1), (2, .long w2), (4, .int w4)], (fe_cs m0 (fe_cs m1 (fe_cs m2 (fe_cs m4 fe_nl)))), Or.inr ((bX30_read_0 (FX33_read n) FX31_read FX32_read FX30_look (FX30_read_0 n ) w0 w1 w2 w4 M).symm.trans hz)⟩
  exact fe_mem_0 hc
theorem vX30_read (n : Nat) : fe_SB (sX30_read (FX33_read n) FX31_read FX32_read FX30_look) := by
  refine ⟨?_, ?_, ?_, ?_⟩
  · intro i As M r h
    rcases fe_bc h with h | h
    · obtain ⟨v0, t0, rfl, g0⟩ := fe_tR_d h
      obtain ⟨rfl, hz⟩ := fe_t0_d g0
      exact mX30_look v0 M r hz
    exact fe_no h
  · intro i As M r h
    exact fe_no h
  · intro i As M r h
    rcases fe_bc h with h | h
    · obtain ⟨v0, t0, rfl, g0⟩ := fe_tR_d h
      obtain ⟨v1, t1, rfl, g1⟩ := fe_tL_d g0
      obtain ⟨v2, t2, rfl, g2⟩ := fe_tI_d g1
      obtain ⟨rfl, hz⟩ := fe_t0_d g2
      exact mX33_read n v0 v1 v2 M r hz
    rcases fe_bc h with h | h
    · obtain ⟨v0, t0, rfl, g0⟩ := fe_tR_d h
      obtain ⟨v1, t1, rfl, g1⟩ := fe_tL_d g0
      obtain ⟨v2, t2, rfl, g2⟩ := fe_tI_d g1
      obtain ⟨rfl, hz⟩ := fe_t0_d g2
      exact mX31_read v0 v1 v2 M r hz
    rcases fe_bc h with h | h
    · obtain ⟨v0, t0, rfl, g0⟩ := fe_tR_d h
      obtain ⟨v1, t1, rfl, g1⟩ := fe_tL_d g0
      obtain ⟨v2, t2, rfl, g2⟩ := fe_tI_d g1
      obtain ⟨rfl, hz⟩ := fe_t0_d g2
      exact mX32_read v0 v1 v2 M r hz
    exact fe_no h
  · intro i As M r h
    exact fe_no h
theorem eX30_read (g0 : Nat → Int32 → Int64 → Int32 → FM → Option (Int64 × FM)) (a0 : Nat) (a1 : Int32) (a2 : Int64) (a4 : Int32) (M : FM) : dX30_read g0 0 [(0, .ref a0), (1, .int a1), (2, .long a2), (4, .int a4)] [] M = g0 a0 a1 a2 a4 M := by rfl
theorem mX30_read (n : Nat) (a0 : Nat) (a1 : Int32) (a2 : Int64) (a4 : Int32) (M : FM) (r : Int64 × FM) (h : FX30_read n a0 a1 a2 a4 M = some r) : fm_nx M ≤ fm_nx r.2 ∧ fm_ns M ≤ fm_ns r.2 :=
  fe_mono (L0 := [(0, .ref a0), (1, .int a1), (2, .long a2), (4, .int a4)]) (vX30_read n) (by decide +kernel) (hX30_read n) (fe_kl_k r) 0 rfl ((eX30_read (FX30_read_0 n ) a0 a1 a2 a4 M).trans h)
theorem zX30_read {s0 : State} {H0 : Heap} {oa : Nat → Nat} {D : va_G} (K : fk s0 H0 oa D) (l : Launch) (n : Nat) (a0 : Nat) (a1 : Int32) (a2 : Int64) (a4 : Int32) (M : FM) (r : Int64 × FM) (h : FX30_read n a0 a1 a2 a4 M = some r) : fs_Con (fk_E s0 H0 oa D) l 5 ⟨"BoardMachine$Signals$SignalUnit", "read", "(IJI)J"⟩ prog_92_method_3_code 7 (Option.some Jvm.ClassFile.FieldType.long) [.ref a0, .int a1, .long a2, .int a4] M (some (.long r.1)) r.2 := by
  have o0 : fs_OS (sX30_read (FX33_read n) FX31_read FX32_read FX30_look) 0 2 (fs_Con (fk_E s0 H0 oa D) l 3 ⟨"BoardMachine$Signals$Controller", "read", "(JI)J"⟩ prog_89_method_8_code 7 (Option.some Jvm.ClassFile.FieldType.long)) := by
    intro As M r h
    obtain ⟨v0, t0, rfl, g0⟩ := fe_tR_d h
    obtain ⟨v1, t1, rfl, g1⟩ := fe_tL_d g0
    obtain ⟨v2, t2, rfl, g2⟩ := fe_tI_d g1
    obtain ⟨rfl, hz⟩ := fe_t0_d g2
    exact zX33_read K l n v0 v1 v2 M r hz
  have o1 : fs_OS (sX30_read (FX33_read n) FX31_read FX32_read FX30_look) 1 2 (fs_Con (fk_E s0 H0 oa D) l 4 ⟨"BoardMachine$Signals$Serial", "read", "(JI)J"⟩ prog_91_method_10_code 5 (Option.some Jvm.ClassFile.FieldType.long)) := by
    intro As M r h
    obtain ⟨v0, t0, rfl, g0⟩ := fe_tR_d h
    obtain ⟨v1, t1, rfl, g1⟩ := fe_tL_d g0
    obtain ⟨v2, t2, rfl, g2⟩ := fe_tI_d g1
    obtain ⟨rfl, hz⟩ := fe_t0_d g2
    exact zX31_read K l v0 v1 v2 M r hz
  have o2 : fs_OS (sX30_read (FX33_read n) FX31_read FX32_read FX30_look) 2 2 (fs_Con (fk_E s0 H0 oa D) l 2 ⟨"BoardMachine$Signals$Timer", "read", "(JI)J"⟩ prog_93_method_5_code 5 (Option.some Jvm.ClassFile.FieldType.long)) := by
    intro As M r h
    obtain ⟨v0, t0, rfl, g0⟩ := fe_tR_d h
    obtain ⟨v1, t1, rfl, g1⟩ := fe_tL_d g0
    obtain ⟨v2, t2, rfl, g2⟩ := fe_tI_d g1
    obtain ⟨rfl, hz⟩ := fe_t0_d g2
    exact zX32_read K l v0 v1 v2 M r hz
  have o3 : fs_OS (sX30_read (FX33_read n) FX31_read FX32_read FX30_look) 3 0 (fs_Con (fk_E s0 H0 oa D) l 3 ⟨"BoardMachine$Signals$SignalUnit", "look", "()V"⟩ prog_92_method_2_code 1 (Option.none : Option Jvm.ClassFile.FieldType)) := by
    intro As M r h
    obtain ⟨v0, t0, rfl, g0⟩ := fe_tR_d h
    obtain ⟨rfl, hz⟩ := fe_t0_d g0
    exact zX30_look K l v0 M r hz
  refine fs_method (own := "BoardMachine$Signals$SignalUnit") rfl (by decide) K.2.1 (by rw [fe_slen]; exact (Nat.le_of_ble_eq_true rfl)) (mX30_read n a0 a1 a2 a4 M r h) (hX30_read n) 0 rfl (L0 := [(0, .ref a0), (1, .int a1), (2, .long a2), (4, .int a4)]) (fun E => fe_args_e E [.ref a0, .int a1, .long a2, .int a4] 0) ((eX30_read (FX30_read_0 n ) a0 a1 a2 a4 M).trans h) (fe_kl_k r) (fun H hR => fs_nr_o (by decide) (by decide)) ?_
  intro p e s m args below meth c Q C hnm
  have hw : s0.WarmedH s.vm := C.2.2.2.2.1
  refine fe_all C fk_hwr cX30_read [1, 9, 17] (by decide +kernel) (fe_fil (cps := [(1, 4, .getfield 1019539774), (9, 14, .invokeinterface 0 0), (17, 20, .invokevirtual 205601871)]) (by decide +kernel) ?_)
  refine fs_c1 (fs_getf (pc := 1) (n := 1019539774) (idx := 20) (ref := "BoardMachine$Signals$SignalUnit") (O := "BoardMachine$Signals$SignalUnit") (name := "devices") (desc := "[LBoardMachine$Signals$Device;") C (by decide +kernel) (Or.inl (kw K hw q1024)) (fun _ h => h) (Nat.le_of_ble_eq_true rfl) (Nat.le_of_ble_eq_true rfl) (fs_one (⟨_, ff_79_243 s0 H0 oa D⟩))) ?_
  refine fs_c1 (fs_inv_table (pc := 9) (nx := 14) (i := 0) (k := 0) C rfl (List.forall_mem_cons.mpr ⟨⟨(Nat.le_of_ble_eq_true rfl), (Nat.le_of_ble_eq_true rfl), _, fs_lk_face (idx := 52) (cnt := 4) (x := ⟨"BoardMachine$Signals$Device", "read", "(JI)J"⟩) (y := ⟨"BoardMachine$Signals$Controller", "read", "(JI)J"⟩) (bytes := prog_89_method_8_code) (maxL := 7) (rt := (Option.some Jvm.ClassFile.FieldType.long)) (d := 3) C (Nat.le_of_ble_eq_true rfl) (Nat.le_of_ble_eq_true rfl) (by decide +kernel) (kw K hw q3547) (kw K hw q344) (kw K hw q3545) (kw K hw q3539) (kFw (C := "BoardMachine$Signals$Controller") (x := ⟨"BoardMachine$Signals$Device", "read", "(JI)J"⟩) (y := ⟨"BoardMachine$Signals$Controller", "read", "(JI)J"⟩) (args := args) K hw ⟨by decide, by decide⟩ q3541 q3540 q3546 q3544 q3542).1 (kFw (C := "BoardMachine$Signals$Controller") (x := ⟨"BoardMachine$Signals$Device", "read", "(JI)J"⟩) (y := ⟨"BoardMachine$Signals$Controller", "read", "(JI)J"⟩) (args := args) K hw ⟨by decide, by decide⟩ q3541 q3540 q3546 q3544 q3542).2.1 (kFw (C := "BoardMachine$Signals$Controller") (x := ⟨"BoardMachine$Signals$Device", "read", "(JI)J"⟩) (y := ⟨"BoardMachine$Signals$Controller", "read", "(JI)J"⟩) (args := args) K hw ⟨by decide, by decide⟩ q3541 q3540 q3546 q3544 q3542).2.2.1 ⟨by decide, by decide⟩ rfl (Nat.le_of_ble_eq_true rfl) (Nat.le_of_ble_eq_true rfl) (fs_one ⟨_, rfl, kw K hw q3543, (kFw (C := "BoardMachine$Signals$Controller") (x := ⟨"BoardMachine$Signals$Device", "read", "(JI)J"⟩) (y := ⟨"BoardMachine$Signals$Controller", "read", "(JI)J"⟩) (args := args) K hw ⟨by decide, by decide⟩ q3541 q3540 q3546 q3544 q3542).2.2.2.1, (kFw (C := "BoardMachine$Signals$Controller") (x := ⟨"BoardMachine$Signals$Device", "read", "(JI)J"⟩) (y := ⟨"BoardMachine$Signals$Controller", "read", "(JI)J"⟩) (args := args) K hw ⟨by decide, by decide⟩ q3541 q3540 q3546 q3544 q3542).2.2.2.2⟩), fs_con_mono, o0⟩, List.forall_mem_cons.mpr ⟨⟨(Nat.le_of_ble_eq_true rfl), (Nat.le_of_ble_eq_true rfl), _, fs_lk_face (idx := 52) (cnt := 4) (x := ⟨"BoardMachine$Signals$Device", "read", "(JI)J"⟩) (y := ⟨"BoardMachine$Signals$Serial", "read", "(JI)J"⟩) (bytes := prog_91_method_10_code) (maxL := 5) (rt := (Option.some Jvm.ClassFile.FieldType.long)) (d := 4) C (Nat.le_of_ble_eq_true rfl) (Nat.le_of_ble_eq_true rfl) (by decide +kernel) (kw K hw q3566) (kw K hw q342) (kw K hw q3564) (kw K hw q3539) (kFw (C := "BoardMachine$Signals$Serial") (x := ⟨"BoardMachine$Signals$Device", "read", "(JI)J"⟩) (y := ⟨"BoardMachine$Signals$Serial", "read", "(JI)J"⟩) (args := args) K hw ⟨by decide, by decide⟩ q3541 q3540 q3565 q3563 q3561).1 (kFw (C := "BoardMachine$Signals$Serial") (x := ⟨"BoardMachine$Signals$Device", "read", "(JI)J"⟩) (y := ⟨"BoardMachine$Signals$Serial", "read", "(JI)J"⟩) (args := args) K hw ⟨by decide, by decide⟩ q3541 q3540 q3565 q3563 q3561).2.1 (kFw (C := "BoardMachine$Signals$Serial") (x := ⟨"BoardMachine$Signals$Device", "read", "(JI)J"⟩) (y := ⟨"BoardMachine$Signals$Serial", "read", "(JI)J"⟩) (args := args) K hw ⟨by decide, by decide⟩ q3541 q3540 q3565 q3563 q3561).2.2.1 ⟨by decide, by decide⟩ rfl (Nat.le_of_ble_eq_true rfl) (Nat.le_of_ble_eq_true rfl) (fs_one ⟨_, rfl, kw K hw q3562, (kFw (C := "BoardMachine$Signals$Serial") (x := ⟨"BoardMachine$Signals$Device", "read", "(JI)J"⟩) (y := ⟨"BoardMachine$Signals$Serial", "read", "(JI)J"⟩) (args := args) K hw ⟨by decide, by decide⟩ q3541 q3540 q3565 q3563 q3561).2.2.2.1, (kFw (C := "BoardMachine$Signals$Serial") (x := ⟨"BoardMachine$Signals$Device", "read", "(JI)J"⟩) (y := ⟨"BoardMachine$Signals$Serial", "read", "(JI)J"⟩) (args := args) K hw ⟨by decide, by decide⟩ q3541 q3540 q3565 q3563 q3561).2.2.2.2⟩), fs_con_mono, o1⟩, List.forall_mem_cons.mpr ⟨⟨(Nat.le_of_ble_eq_true rfl), (Nat.le_of_ble_eq_true rfl), _, fs_lk_face (idx := 52) (cnt := 4) (x := ⟨"BoardMachine$Signals$Device", "read", "(JI)J"⟩) (y := ⟨"BoardMachine$Signals$Timer", "read", "(JI)J"⟩) (bytes := prog_93_method_5_code) (maxL := 5) (rt := (Option.some Jvm.ClassFile.FieldType.long)) (d := 2) C (Nat.le_of_ble_eq_true rfl) (Nat.le_of_ble_eq_true rfl) (by decide +kernel) (kw K hw q3597) (kw K hw q343) (kw K hw q3595) (kw K hw q3539) (kFw (C := "BoardMachine$Signals$Timer") (x := ⟨"BoardMachine$Signals$Device", "read", "(JI)J"⟩) (y := ⟨"BoardMachine$Signals$Timer", "read", "(JI)J"⟩) (args := args) K hw ⟨by decide, by decide⟩ q3541 q3540 q3596 q3594 q3592).1 (kFw (C := "BoardMachine$Signals$Timer") (x := ⟨"BoardMachine$Signals$Device", "read", "(JI)J"⟩) (y := ⟨"BoardMachine$Signals$Timer", "read", "(JI)J"⟩) (args := args) K hw ⟨by decide, by decide⟩ q3541 q3540 q3596 q3594 q3592).2.1 (kFw (C := "BoardMachine$Signals$Timer") (x := ⟨"BoardMachine$Signals$Device", "read", "(JI)J"⟩) (y := ⟨"BoardMachine$Signals$Timer", "read", "(JI)J"⟩) (args := args) K hw ⟨by decide, by decide⟩ q3541 q3540 q3596 q3594 q3592).2.2.1 ⟨by decide, by decide⟩ rfl (Nat.le_of_ble_eq_true rfl) (Nat.le_of_ble_eq_true rfl) (fs_one ⟨_, rfl, kw K hw q3593, (kFw (C := "BoardMachine$Signals$Timer") (x := ⟨"BoardMachine$Signals$Device", "read", "(JI)J"⟩) (y := ⟨"BoardMachine$Signals$Timer", "read", "(JI)J"⟩) (args := args) K hw ⟨by decide, by decide⟩ q3541 q3540 q3596 q3594 q3592).2.2.2.1, (kFw (C := "BoardMachine$Signals$Timer") (x := ⟨"BoardMachine$Signals$Device", "read", "(JI)J"⟩) (y := ⟨"BoardMachine$Signals$Timer", "read", "(JI)J"⟩) (args := args) K hw ⟨by decide, by decide⟩ q3541 q3540 q3596 q3594 q3592).2.2.2.2⟩), fs_con_mono, o2⟩, List.forall_mem_nil _⟩⟩⟩)) ?_
  refine fs_c1 (fs_inv_virtual (pc := 17) (n := 205601871) C (Nat.le_of_ble_eq_true rfl) (Nat.le_of_ble_eq_true rfl) (fs_lk_virtual (idx := 56) (y := ⟨"BoardMachine$Signals$SignalUnit", "look", "()V"⟩) (bytes := prog_92_method_2_code) (maxL := 1) (rt := (Option.none : Option Jvm.ClassFile.FieldType)) (d := 3) C (Nat.le_of_ble_eq_true rfl) (Nat.le_of_ble_eq_true rfl) (by decide +kernel) (kw K hw q3620) (kw K hw q341) (kw K hw q3619) (Or.inl (kw K hw q3617)) ⟨by decide, by decide⟩ rfl (Nat.le_of_ble_eq_true rfl) (Nat.le_of_ble_eq_true rfl) (fs_one (⟨_, rfl, kw K hw qs77⟩))) fs_con_mono o3) ?_
  exact fs_c0
theorem hX18_read : fe_H (sX18_read) cX18_read [0, 87, 115, 129, 151, 152] fe_ki [] 54 (fun _ => dX18_read FX18_read_0 FX18_read_87 FX18_read_115 FX18_read_129 FX18_read_151 FX18_read_152) := by
  intro j pc L st M r hc h
  rcases fe_mem_c hc with rfl | hc
  · obtain ⟨w0, m0, h⟩ := fe_lR_d h
    obtain ⟨w1, m1, h⟩ := fe_lI_d h
    obtain ⟨rfl, hz⟩ := fe_t0_d h
    exact ⟨[(0, .ref w0), (1, .int w1)], (fe_cs m0 (fe_cs m1 fe_nl)), Or.inr ((bX18_read_0 FX18_read_0 FX18_read_87 FX18_read_115 FX18_read_129 FX18_read_151 FX18_read_152 w0 w1 M).symm.trans hz)⟩
  rcases fe_mem_c hc with rfl | hc
  · obtain ⟨rfl, hz⟩ := fe_t0_d h
    exact ⟨[], fe_nl, Or.inr ((bX18_read_87 FX18_read_0 FX18_read_87 FX18_read_115 FX18_read_129 FX18_read_151 FX18_read_152 M).symm.trans hz)⟩
  rcases fe_mem_c hc with rfl | hc
  · obtain ⟨s0, t0, rfl, g0⟩ := fe_tI_d h
    obtain ⟨rfl, hz⟩ := fe_t0_d g0
    exact ⟨[], fe_nl, Or.inr ((bX18_read_115 FX18_read_0 FX18_read_87 FX18_read_115 FX18_read_129 FX18_read_151 FX18_read_152 s0 M).symm.trans hz)⟩
  rcases fe_mem_c hc with rfl | hc
  · obtain ⟨s0, t0, rfl, g0⟩ := fe_tI_d h
    obtain ⟨rfl, hz⟩ := fe_t0_d g0
    exact ⟨[], fe_nl, Or.inr ((bX18_read_129 FX18_read_0 FX18_read_87 FX18_read_115 FX18_read_129 FX18_read_151 FX18_read_152 s0 M).symm.trans hz)⟩
  rcases fe_mem_c hc with rfl | hc
  · obtain ⟨rfl, hz⟩ := fe_t0_d h
    exact ⟨[], fe_nl, Or.inr ((bX18_read_151 FX18_read_0 FX18_read_87 FX18_read_115 FX18_read_129 FX18_read_151 FX18_read_152 M).symm.trans hz)⟩
  rcases fe_mem_c hc with rfl | hc
  · obtain ⟨s0, t0, rfl, g0⟩ := fe_tI_d h
    obtain ⟨rfl, hz⟩ := fe_t0_d g0
    exact ⟨[], fe_nl, Or.inr ((bX18_read_152 FX18_read_0 FX18_read_87 FX18_read_115 FX18_read_129 FX18_read_151 FX18_read_152 s0 M).symm.trans hz)⟩
  exact fe_mem_0 hc
theorem vX18_read : fe_SB (sX18_read) := by
  refine ⟨?_, ?_, ?_, ?_⟩
  · intro i As M r h
    exact fe_no h
  · intro i As M r h
    exact fe_no h
  · intro i As M r h
    exact fe_no h
  · intro i As M r h
    exact fe_no h
theorem eX18_read (g0 : Nat → Int32 → FM → Option (Int32 × FM)) (g87 : FM → Option (Int32 × FM)) (g115 : Int32 → FM → Option (Int32 × FM)) (g129 : Int32 → FM → Option (Int32 × FM)) (g151 : FM → Option (Int32 × FM)) (g152 : Int32 → FM → Option (Int32 × FM)) (a0 : Nat) (a1 : Int32) (M : FM) : dX18_read g0 g87 g115 g129 g151 g152 0 [(0, .ref a0), (1, .int a1)] [] M = g0 a0 a1 M := by rfl
theorem mX18_read (a0 : Nat) (a1 : Int32) (M : FM) (r : Int32 × FM) (h : FX18_read a0 a1 M = some r) : fm_nx M ≤ fm_nx r.2 ∧ fm_ns M ≤ fm_ns r.2 :=
  fe_mono (L0 := [(0, .ref a0), (1, .int a1)]) (vX18_read) (by decide +kernel) (hX18_read) (fe_ki_k r) 0 rfl ((eX18_read FX18_read_0 FX18_read_87 FX18_read_115 FX18_read_129 FX18_read_151 FX18_read_152 a0 a1 M).trans h)
theorem zX18_read {s0 : State} {H0 : Heap} {oa : Nat → Nat} {D : va_G} (K : fk s0 H0 oa D) (l : Launch) (a0 : Nat) (a1 : Int32) (M : FM) (r : Int32 × FM) (h : FX18_read a0 a1 M = some r) : fs_Con (fk_E s0 H0 oa D) l 1 ⟨"BoardMachine$Disks$Device", "read", "(I)I"⟩ prog_17_method_2_code 2 (Option.some Jvm.ClassFile.FieldType.int) [.ref a0, .int a1] M (some (.int r.1)) r.2 := by
  refine fs_method (own := "BoardMachine$Disks$Device") rfl (by decide) K.2.1 (by rw [fe_slen]; exact (Nat.le_of_ble_eq_true rfl)) (mX18_read a0 a1 M r h) (hX18_read) 0 rfl (L0 := [(0, .ref a0), (1, .int a1)]) (fun E => fe_args_e E [.ref a0, .int a1] 0) ((eX18_read FX18_read_0 FX18_read_87 FX18_read_115 FX18_read_129 FX18_read_151 FX18_read_152 a0 a1 M).trans h) (fe_ki_k r) (fun H hR => fs_nr_o (by decide) (by decide)) ?_
  intro p e s m args below meth c Q C hnm
  have hw : s0.WarmedH s.vm := C.2.2.2.2.1
  refine fe_all C fk_hwr cX18_read [84, 90, 103, 117, 131, 138, 141, 154, 159, 164, 167] (by decide +kernel) (fe_fil (cps := [(84, 86, .iconst (1953655158)), (90, 93, .getfield 264331352), (103, 106, .getfield 264331352), (117, 120, .getfield 268525656), (131, 134, .getfield 268525656), (138, 141, .getfield 251748442), (141, 144, .getfield 302104691), (154, 157, .getfield 276914264), (159, 162, .getfield 272719960), (164, 167, .getfield 247554138), (167, 170, .getfield 285306972)]) (by decide +kernel) ?_)
  refine fs_c1 (fs_ldci (pc := 84) (idx := 56) (v := 1953655158) C (by decide +kernel) (kw K hw q3639)) ?_
  refine fs_c1 (fs_getf (pc := 90) (n := 264331352) (idx := 57) (ref := "BoardMachine$Disks$Device") (O := "BoardMachine$Disks$Device") (name := "offered") (desc := "I") C (by decide +kernel) (Or.inl (kw K hw q885)) (fun _ h => h) (Nat.le_of_ble_eq_true rfl) (Nat.le_of_ble_eq_true rfl) (fs_one (⟨_, ff_22_63 s0 H0 oa D⟩))) ?_
  refine fs_c1 (fs_getf (pc := 103) (n := 264331352) (idx := 57) (ref := "BoardMachine$Disks$Device") (O := "BoardMachine$Disks$Device") (name := "offered") (desc := "I") C (by decide +kernel) (Or.inl (kw K hw q885)) (fun _ h => h) (Nat.le_of_ble_eq_true rfl) (Nat.le_of_ble_eq_true rfl) (fs_one (⟨_, ff_22_63 s0 H0 oa D⟩))) ?_
  refine fs_c1 (fs_getf (pc := 117) (n := 268525656) (idx := 61) (ref := "BoardMachine$Disks$Device") (O := "BoardMachine$Disks$Device") (name := "selected") (desc := "I") C (by decide +kernel) (Or.inl (kw K hw q886)) (fun _ h => h) (Nat.le_of_ble_eq_true rfl) (Nat.le_of_ble_eq_true rfl) (fs_one (⟨_, ff_22_64 s0 H0 oa D⟩))) ?_
  refine fs_c1 (fs_getf (pc := 131) (n := 268525656) (idx := 61) (ref := "BoardMachine$Disks$Device") (O := "BoardMachine$Disks$Device") (name := "selected") (desc := "I") C (by decide +kernel) (Or.inl (kw K hw q886)) (fun _ h => h) (Nat.le_of_ble_eq_true rfl) (Nat.le_of_ble_eq_true rfl) (fs_one (⟨_, ff_22_64 s0 H0 oa D⟩))) ?_
  refine fs_c1 (fs_getf (pc := 138) (n := 251748442) (idx := 12) (ref := "BoardMachine$Disks$Device") (O := "BoardMachine$Disks$Device") (name := "queue") (desc := "LBoardMachine$Disks$Queue;") C (by decide +kernel) (Or.inl (kw K hw q882)) (fun _ h => h) (Nat.le_of_ble_eq_true rfl) (Nat.le_of_ble_eq_true rfl) (fs_one (⟨_, ff_22_60 s0 H0 oa D⟩))) ?_
  refine fs_c1 (fs_getf (pc := 141) (n := 302104691) (idx := 64) (ref := "BoardMachine$Disks$Queue") (O := "BoardMachine$Disks$Queue") (name := "ready") (desc := "Z") C (by decide +kernel) (Or.inr ⟨_, kF K hw q734⟩) (fun _ h => h) (Nat.le_of_ble_eq_true rfl) (Nat.le_of_ble_eq_true rfl) (fs_one (⟨_, ff_28_72 s0 H0 oa D⟩))) ?_
  refine fs_c1 (fs_getf (pc := 154) (n := 276914264) (idx := 68) (ref := "BoardMachine$Disks$Device") (O := "BoardMachine$Disks$Device") (name := "causes") (desc := "I") C (by decide +kernel) (Or.inl (kw K hw q888)) (fun _ h => h) (Nat.le_of_ble_eq_true rfl) (Nat.le_of_ble_eq_true rfl) (fs_one (⟨_, ff_22_66 s0 H0 oa D⟩))) ?_
  refine fs_c1 (fs_getf (pc := 159) (n := 272719960) (idx := 71) (ref := "BoardMachine$Disks$Device") (O := "BoardMachine$Disks$Device") (name := "state") (desc := "I") C (by decide +kernel) (Or.inl (kw K hw q887)) (fun _ h => h) (Nat.le_of_ble_eq_true rfl) (Nat.le_of_ble_eq_true rfl) (fs_one (⟨_, ff_22_65 s0 H0 oa D⟩))) ?_
  refine fs_c1 (fs_getf (pc := 164) (n := 247554138) (idx := 40) (ref := "BoardMachine$Disks$Device") (O := "BoardMachine$Disks$Device") (name := "disk") (desc := "LBoardMachine$Disks$Disk;") C (by decide +kernel) (Or.inl (kw K hw q879)) (fun _ h => h) (Nat.le_of_ble_eq_true rfl) (Nat.le_of_ble_eq_true rfl) (fs_one (⟨_, ff_22_59 s0 H0 oa D⟩))) ?_
  refine fs_c1 (fs_getf (pc := 167) (n := 285306972) (idx := 74) (ref := "BoardMachine$Disks$Disk") (O := "BoardMachine$Disks$Disk") (name := "sectors") (desc := "I") C (by decide +kernel) (Or.inr ⟨_, kF K hw q836⟩) (fun _ h => h) (Nat.le_of_ble_eq_true rfl) (Nat.le_of_ble_eq_true rfl) (fs_one (⟨_, ff_23_68 s0 H0 oa D⟩))) ?_
  exact fs_c0
theorem hX10_read (n : Nat) : fe_H (sX10_read FJ0_ordinal FX10_isRegister (FX30_read n) FX18_read) cX10_read [0, 112] fe_kl [] 51 (fun _ => dX10_read (FX10_read_0 n) (FX10_read_112 n)) := by
  intro j pc L st M r hc h
  rcases fe_mem_c hc with rfl | hc
  · obtain ⟨w0, m0, h⟩ := fe_lR_d h
    obtain ⟨w1, m1, h⟩ := fe_lR_d h
    obtain ⟨w2, m2, h⟩ := fe_lL_d h
    obtain ⟨w4, m4, h⟩ := fe_lI_d h
    obtain ⟨rfl, hz⟩ := fe_t0_d h
    exact ⟨[(0, .ref w0), (1, .ref w1), (2, .long w2), (4, .int w4)], (fe_cs m0 (fe_cs m1 (fe_cs m2 (fe_cs m4 fe_nl)))), Or.inr ((bX10_read_0 FJ0_ordinal FX10_isRegister (FX30_read n) FX18_read (FX10_read_0 n ) (FX10_read_112 n ) w0 w1 w2 w4 M).symm.trans hz)⟩
  rcases fe_mem_c hc with rfl | hc
  · obtain ⟨s0, t0, rfl, g0⟩ := fe_tL_d h
    obtain ⟨rfl, hz⟩ := fe_t0_d g0
    exact ⟨[], fe_nl, Or.inr ((bX10_read_112 FJ0_ordinal FX10_isRegister (FX30_read n) FX18_read (FX10_read_0 n ) (FX10_read_112 n ) s0 M).symm.trans hz)⟩
  exact fe_mem_0 hc
theorem vX10_read (n : Nat) : fe_SB (sX10_read FJ0_ordinal FX10_isRegister (FX30_read n) FX18_read) := by
  refine ⟨?_, ?_, ?_, ?_⟩
  · intro i As M r h
    exact fe_no h
  · intro i As M r h
    rcases fe_bc h with h | h
    · obtain ⟨v0, t0, rfl, g0⟩ := fe_tR_d h
      obtain ⟨rfl, hz⟩ := fe_t0_d g0
      exact mJ0_ordinal v0 M r hz
    rcases fe_bc h with h | h
    · obtain ⟨v0, t0, rfl, g0⟩ := fe_tL_d h
      obtain ⟨v1, t1, rfl, g1⟩ := fe_tI_d g0
      obtain ⟨rfl, hz⟩ := fe_t0_d g1
      exact mX10_isRegister v0 v1 M r hz
    rcases fe_bc h with h | h
    · obtain ⟨v0, t0, rfl, g0⟩ := fe_tR_d h
      obtain ⟨v1, t1, rfl, g1⟩ := fe_tI_d g0
      obtain ⟨rfl, hz⟩ := fe_t0_d g1
      exact mX18_read v0 v1 M r hz
    exact fe_no h
  · intro i As M r h
    rcases fe_bc h with h | h
    · obtain ⟨v0, t0, rfl, g0⟩ := fe_tR_d h
      obtain ⟨v1, t1, rfl, g1⟩ := fe_tI_d g0
      obtain ⟨v2, t2, rfl, g2⟩ := fe_tL_d g1
      obtain ⟨v3, t3, rfl, g3⟩ := fe_tI_d g2
      obtain ⟨rfl, hz⟩ := fe_t0_d g3
      exact mX30_read n v0 v1 v2 v3 M r hz
    exact fe_no h
  · intro i As M r h
    exact fe_no h
theorem eX10_read (g0 : Nat → Nat → Int64 → Int32 → FM → Option (Int64 × FM)) (g112 : Int64 → FM → Option (Int64 × FM)) (a0 : Nat) (a1 : Nat) (a2 : Int64) (a4 : Int32) (M : FM) : dX10_read g0 g112 0 [(0, .ref a0), (1, .ref a1), (2, .long a2), (4, .int a4)] [] M = g0 a0 a1 a2 a4 M := by rfl
theorem mX10_read (n : Nat) (a0 : Nat) (a1 : Nat) (a2 : Int64) (a4 : Int32) (M : FM) (r : Int64 × FM) (h : FX10_read n a0 a1 a2 a4 M = some r) : fm_nx M ≤ fm_nx r.2 ∧ fm_ns M ≤ fm_ns r.2 :=
  fe_mono (L0 := [(0, .ref a0), (1, .ref a1), (2, .long a2), (4, .int a4)]) (vX10_read n) (by decide +kernel) (hX10_read n) (fe_kl_k r) 0 rfl ((eX10_read (FX10_read_0 n ) (FX10_read_112 n ) a0 a1 a2 a4 M).trans h)
theorem zX10_read {s0 : State} {H0 : Heap} {oa : Nat → Nat} {D : va_G} (K : fk s0 H0 oa D) (l : Launch) (n : Nat) (a0 : Nat) (a1 : Nat) (a2 : Int64) (a4 : Int32) (M : FM) (r : Int64 × FM) (h : FX10_read n a0 a1 a2 a4 M = some r) : fs_Con (fk_E s0 H0 oa D) l 6 ⟨"BoardMachine$Board", "read", "(LBoardMachine$Window;JI)J"⟩ prog_2_method_4_code 7 (Option.some Jvm.ClassFile.FieldType.long) [.ref a0, .ref a1, .long a2, .int a4] M (some (.long r.1)) r.2 := by
  have o0 : fs_OS (sX10_read FJ0_ordinal FX10_isRegister (FX30_read n) FX18_read) 0 1 (fs_Con (fk_E s0 H0 oa D) l 1 ⟨"java/lang/Enum", "ordinal", "()I"⟩ prog_123_method_2_code 1 (Option.some Jvm.ClassFile.FieldType.int)) := by
    intro As M r h
    obtain ⟨v0, t0, rfl, g0⟩ := fe_tR_d h
    obtain ⟨rfl, hz⟩ := fe_t0_d g0
    exact zJ0_ordinal K l v0 M r hz
  have o1 : fs_OS (sX10_read FJ0_ordinal FX10_isRegister (FX30_read n) FX18_read) 1 1 (fs_Con (fk_E s0 H0 oa D) l 1 ⟨"BoardMachine$Board", "isRegister", "(JI)Z"⟩ prog_2_method_3_code 3 (Option.some Jvm.ClassFile.FieldType.boolean)) := by
    intro As M r h
    obtain ⟨v0, t0, rfl, g0⟩ := fe_tL_d h
    obtain ⟨v1, t1, rfl, g1⟩ := fe_tI_d g0
    obtain ⟨rfl, hz⟩ := fe_t0_d g1
    exact zX10_isRegister K l v0 v1 M r hz
  have o2 : fs_OS (sX10_read FJ0_ordinal FX10_isRegister (FX30_read n) FX18_read) 2 2 (fs_Con (fk_E s0 H0 oa D) l 5 ⟨"BoardMachine$Signals$SignalUnit", "read", "(IJI)J"⟩ prog_92_method_3_code 7 (Option.some Jvm.ClassFile.FieldType.long)) := by
    intro As M r h
    obtain ⟨v0, t0, rfl, g0⟩ := fe_tR_d h
    obtain ⟨v1, t1, rfl, g1⟩ := fe_tI_d g0
    obtain ⟨v2, t2, rfl, g2⟩ := fe_tL_d g1
    obtain ⟨v3, t3, rfl, g3⟩ := fe_tI_d g2
    obtain ⟨rfl, hz⟩ := fe_t0_d g3
    exact zX30_read K l n v0 v1 v2 v3 M r hz
  have o3 : fs_OS (sX10_read FJ0_ordinal FX10_isRegister (FX30_read n) FX18_read) 3 1 (fs_Con (fk_E s0 H0 oa D) l 1 ⟨"BoardMachine$Disks$Device", "read", "(I)I"⟩ prog_17_method_2_code 2 (Option.some Jvm.ClassFile.FieldType.int)) := by
    intro As M r h
    obtain ⟨v0, t0, rfl, g0⟩ := fe_tR_d h
    obtain ⟨v1, t1, rfl, g1⟩ := fe_tI_d g0
    obtain ⟨rfl, hz⟩ := fe_t0_d g1
    exact zX18_read K l v0 v1 M r hz
  refine fs_method (own := "BoardMachine$Board") rfl (by decide) K.2.1 (by rw [fe_slen]; exact (Nat.le_of_ble_eq_true rfl)) (mX10_read n a0 a1 a2 a4 M r h) (hX10_read n) 0 rfl (L0 := [(0, .ref a0), (1, .ref a1), (2, .long a2), (4, .int a4)]) (fun E => fe_args_e E [.ref a0, .ref a1, .long a2, .int a4] 0) ((eX10_read (FX10_read_0 n ) (FX10_read_112 n ) a0 a1 a2 a4 M).trans h) (fe_kl_k r) (fun H hR => fs_nr_o (by decide) (by decide)) ?_
  intro p e s m args below meth c Q C hnm
  have hw : s0.WarmedH s.vm := C.2.2.2.2.1
  refine fe_all C fk_hwr cX10_read [2, 9, 12, 45, 53, 58, 66, 71, 79, 87, 94, 100, 104] (by decide +kernel) (fe_fil (cps := [(2, 5, .getfield 54550553), (9, 12, .invokevirtual 5249030), (12, 44, .lookupswitch (101) #[(1, 32), (2, 45), (3, 58), (4, 71)]), (45, 48, .getfield 79736878), (53, 56, .invokevirtual 153173071), (58, 61, .getfield 79736878), (66, 69, .invokevirtual 153173071), (71, 74, .getfield 79736878), (79, 82, .invokevirtual 153173071), (87, 90, .invokestatic 73), (94, 97, .getfield 83931182), (100, 103, .invokevirtual 210786326), (104, 107, .jsr_w (4294967295))]) (by decide +kernel) ?_)
  refine fs_c1 (fs_getf (pc := 2) (n := 54550553) (idx := 63) (ref := "BoardMachine$Window") (O := "BoardMachine$Window") (name := "from") (desc := "J") C (by decide +kernel) (Or.inr ⟨_, kF K hw q6560⟩) (fun _ h => h) (Nat.le_of_ble_eq_true rfl) (Nat.le_of_ble_eq_true rfl) (fs_one (⟨_, ff_6_13 s0 H0 oa D⟩))) ?_
  refine fs_c1 (fs_inv_virtual (pc := 9) (n := 5249030) C (Nat.le_of_ble_eq_true rfl) (Nat.le_of_ble_eq_true rfl) (fs_lk_up (idx := 67) (x := ⟨"BoardMachine$Window", "ordinal", "()I"⟩) (owner := "java/lang/Enum") (y := ⟨"java/lang/Enum", "ordinal", "()I"⟩) (bytes := prog_123_method_2_code) (maxL := 1) (rt := (Option.some Jvm.ClassFile.FieldType.int)) (d := 1) C (Nat.le_of_ble_eq_true rfl) (Nat.le_of_ble_eq_true rfl) (by decide +kernel) (kw K hw q2489) (kw K hw q339) (kw K hw q2488) (kw K hw q3531) (kw K hw q3532) (va_Decl.of (kw (args := args) K hw q2488) (kw K hw q2489)) ⟨by decide, by decide⟩ rfl (Nat.le_of_ble_eq_true rfl) (Nat.le_of_ble_eq_true rfl) (fs_one (⟨_, rfl, kw K hw q3533⟩))) fs_con_mono o0) ?_
  refine fs_c1 (fs_tswl (pc := 12) (nx := 44) (d := 101) (lo := 1) (hi := 4) (offs := #[32, 45, 58, 71]) C (by decide +kernel) (by decide +kernel)) ?_
  refine fs_c1 (fs_getf (pc := 45) (n := 79736878) (idx := 51) (ref := "BoardMachine$Board") (O := "BoardMachine$Board") (name := "signals") (desc := "LBoardMachine$Signals$SignalUnit;") C (by decide +kernel) (Or.inl (kw K hw q1041)) (fun _ h => h) (Nat.le_of_ble_eq_true rfl) (Nat.le_of_ble_eq_true rfl) (fs_one (⟨_, ff_11_19 s0 H0 oa D⟩))) ?_
  refine fs_c1 (fs_inv_virtual (pc := 53) (n := 153173071) C (Nat.le_of_ble_eq_true rfl) (Nat.le_of_ble_eq_true rfl) (fs_lk_virtual (idx := 71) (y := ⟨"BoardMachine$Signals$SignalUnit", "read", "(IJI)J"⟩) (bytes := prog_92_method_3_code) (maxL := 7) (rt := (Option.some Jvm.ClassFile.FieldType.long)) (d := 5) C (Nat.le_of_ble_eq_true rfl) (Nat.le_of_ble_eq_true rfl) (by decide +kernel) (kw K hw q3537) (kw K hw q341) (kw K hw q3535) (Or.inl (kw K hw q3534)) ⟨by decide, by decide⟩ rfl (Nat.le_of_ble_eq_true rfl) (Nat.le_of_ble_eq_true rfl) (fs_one (⟨_, rfl, kw K hw q3536⟩))) fs_con_mono o2) ?_
  refine fs_c1 (fs_getf (pc := 58) (n := 79736878) (idx := 51) (ref := "BoardMachine$Board") (O := "BoardMachine$Board") (name := "signals") (desc := "LBoardMachine$Signals$SignalUnit;") C (by decide +kernel) (Or.inl (kw K hw q1041)) (fun _ h => h) (Nat.le_of_ble_eq_true rfl) (Nat.le_of_ble_eq_true rfl) (fs_one (⟨_, ff_11_19 s0 H0 oa D⟩))) ?_
  refine fs_c1 (fs_inv_virtual (pc := 66) (n := 153173071) C (Nat.le_of_ble_eq_true rfl) (Nat.le_of_ble_eq_true rfl) (fs_lk_virtual (idx := 71) (y := ⟨"BoardMachine$Signals$SignalUnit", "read", "(IJI)J"⟩) (bytes := prog_92_method_3_code) (maxL := 7) (rt := (Option.some Jvm.ClassFile.FieldType.long)) (d := 5) C (Nat.le_of_ble_eq_true rfl) (Nat.le_of_ble_eq_true rfl) (by decide +kernel) (kw K hw q3537) (kw K hw q341) (kw K hw q3535) (Or.inl (kw K hw q3534)) ⟨by decide, by decide⟩ rfl (Nat.le_of_ble_eq_true rfl) (Nat.le_of_ble_eq_true rfl) (fs_one (⟨_, rfl, kw K hw q3536⟩))) fs_con_mono o2) ?_
  refine fs_c1 (fs_getf (pc := 71) (n := 79736878) (idx := 51) (ref := "BoardMachine$Board") (O := "BoardMachine$Board") (name := "signals") (desc := "LBoardMachine$Signals$SignalUnit;") C (by decide +kernel) (Or.inl (kw K hw q1041)) (fun _ h => h) (Nat.le_of_ble_eq_true rfl) (Nat.le_of_ble_eq_true rfl) (fs_one (⟨_, ff_11_19 s0 H0 oa D⟩))) ?_
  refine fs_c1 (fs_inv_virtual (pc := 79) (n := 153173071) C (Nat.le_of_ble_eq_true rfl) (Nat.le_of_ble_eq_true rfl) (fs_lk_virtual (idx := 71) (y := ⟨"BoardMachine$Signals$SignalUnit", "read", "(IJI)J"⟩) (bytes := prog_92_method_3_code) (maxL := 7) (rt := (Option.some Jvm.ClassFile.FieldType.long)) (d := 5) C (Nat.le_of_ble_eq_true rfl) (Nat.le_of_ble_eq_true rfl) (by decide +kernel) (kw K hw q3537) (kw K hw q341) (kw K hw q3535) (Or.inl (kw K hw q3534)) ⟨by decide, by decide⟩ rfl (Nat.le_of_ble_eq_true rfl) (Nat.le_of_ble_eq_true rfl) (fs_one (⟨_, rfl, kw K hw q3536⟩))) fs_con_mono o2) ?_
  refine fs_c1 (fs_inv_static (pc := 87) (n := 73) C (fs_lk_static (idx := 75) (y := ⟨"BoardMachine$Board", "isRegister", "(JI)Z"⟩) (bytes := prog_2_method_3_code) (maxL := 3) (rt := (Option.some Jvm.ClassFile.FieldType.boolean)) (d := 1) C (by decide +kernel) (kw K hw q3632) (kw K hw q320) (kw K hw q3631) (Or.inl (kw K hw q3630)) ⟨by decide, by decide⟩ rfl (Nat.le_of_ble_eq_true rfl) (Nat.le_of_ble_eq_true rfl)) fs_con_mono o1) ?_
  refine fs_c1 (fs_getf (pc := 94) (n := 83931182) (idx := 30) (ref := "BoardMachine$Board") (O := "BoardMachine$Board") (name := "disk") (desc := "LBoardMachine$Disks$Device;") C (by decide +kernel) (Or.inl (kw K hw q1045)) (fun _ h => h) (Nat.le_of_ble_eq_true rfl) (Nat.le_of_ble_eq_true rfl) (fs_one (⟨_, ff_11_20 s0 H0 oa D⟩))) ?_
  refine fs_c1 (fs_inv_virtual (pc := 100) (n := 210786326) C (Nat.le_of_ble_eq_true rfl) (Nat.le_of_ble_eq_true rfl) (fs_lk_virtual (idx := 78) (y := ⟨"BoardMachine$Disks$Device", "read", "(I)I"⟩) (bytes := prog_17_method_2_code) (maxL := 2) (rt := (Option.some Jvm.ClassFile.FieldType.int)) (d := 1) C (Nat.le_of_ble_eq_true rfl) (Nat.le_of_ble_eq_true rfl) (by decide +kernel) (kw K hw q3638) (kw K hw q328) (kw K hw q3636) (Or.inl (kw K hw q3635)) ⟨by decide, by decide⟩ rfl (Nat.le_of_ble_eq_true rfl) (Nat.le_of_ble_eq_true rfl) (fs_one (⟨_, rfl, kw K hw q3637⟩))) fs_con_mono o3) ?_
  refine fs_c1 (fs_ldcl (pc := 104) (idx := 81) (v := 4294967295) C (by decide +kernel) (kw K hw q3640)) ?_
  exact fs_c0
theorem hX73_load (n : Nat) : fe_H (sX73_load (FX10_read n) FX11_load) cX73_load [0, 61] fe_kl [61] 58 (fun j => dX73_load (FX73_load_0 n (FX73_load_L61 n j)) (FX73_load_L61 n j)) := by
  intro j pc L st M r hc h
  rcases fe_mem_c hc with rfl | hc
  · obtain ⟨w0, m0, h⟩ := fe_lR_d h
    obtain ⟨w1, m1, h⟩ := fe_lR_d h
    obtain ⟨rfl, hz⟩ := fe_t0_d h
    exact ⟨[(0, .ref w0), (1, .ref w1)], (fe_cs m0 (fe_cs m1 fe_nl)), Or.inr ((bX73_load_0 (FX10_read n) FX11_load (FX73_load_0 n (FX73_load_L61 n j)) (FX73_load_L61 n j) w0 w1 M).symm.trans hz)⟩
  rcases fe_mem_c hc with rfl | hc
  · obtain ⟨w0, m0, h⟩ := fe_lR_d h
    obtain ⟨w1, m1, h⟩ := fe_lR_d h
    obtain ⟨w2, m2, h⟩ := fe_lL_d h
    obtain ⟨w4, m4, h⟩ := fe_lI_d h
    obtain ⟨rfl, hz⟩ := fe_t0_d h
    cases j with
    | zero => exact fe_no hz
    | succ j => exact ⟨[(0, .ref w0), (1, .ref w1), (2, .long w2), (4, .int w4)], (fe_cs m0 (fe_cs m1 (fe_cs m2 (fe_cs m4 fe_nl)))), Or.inl ⟨j, rfl, (bX73_load_61 (FX10_read n) FX11_load (FX73_load_0 n (FX73_load_L61 n j)) (FX73_load_L61 n j) w0 w1 w2 w4 M).symm.trans hz⟩⟩
  exact fe_mem_0 hc
theorem vX73_load (n : Nat) : fe_SB (sX73_load (FX10_read n) FX11_load) := by
  refine ⟨?_, ?_, ?_, ?_⟩
  · intro i As M r h
    exact fe_no h
  · intro i As M r h
    exact fe_no h
  · intro i As M r h
    rcases fe_bc h with h | h
    · obtain ⟨v0, t0, rfl, g0⟩ := fe_tR_d h
      obtain ⟨v1, t1, rfl, g1⟩ := fe_tR_d g0
      obtain ⟨v2, t2, rfl, g2⟩ := fe_tL_d g1
      obtain ⟨v3, t3, rfl, g3⟩ := fe_tI_d g2
      obtain ⟨rfl, hz⟩ := fe_t0_d g3
      exact mX10_read n v0 v1 v2 v3 M r hz
    rcases fe_bc h with h | h
    · obtain ⟨v0, t0, rfl, g0⟩ := fe_tR_d h
      obtain ⟨v1, t1, rfl, g1⟩ := fe_tL_d g0
      obtain ⟨v2, t2, rfl, g2⟩ := fe_tI_d g1
      obtain ⟨rfl, hz⟩ := fe_t0_d g2
      exact mX11_load v0 v1 v2 M r hz
    exact fe_no h
  · intro i As M r h
    exact fe_no h
theorem eX73_load (g0 : Nat → Nat → FM → Option (Int64 × FM)) (k61 : Nat → Nat → Int64 → Int32 → FM → Option (Int64 × FM)) (a0 : Nat) (a1 : Nat) (M : FM) : dX73_load g0 k61 0 [(0, .ref a0), (1, .ref a1)] [] M = g0 a0 a1 M := by rfl
theorem mX73_load (n : Nat) (a0 : Nat) (a1 : Nat) (M : FM) (r : Int64 × FM) (h : FX73_load n a0 a1 M = some r) : fm_nx M ≤ fm_nx r.2 ∧ fm_ns M ≤ fm_ns r.2 :=
  fe_mono (L0 := [(0, .ref a0), (1, .ref a1)]) (vX73_load n) (by decide +kernel) (hX73_load n) (fe_kl_k r) n rfl ((eX73_load (FX73_load_0 n (FX73_load_L61 n n)) (FX73_load_L61 n n) a0 a1 M).trans h)
theorem zX73_load {s0 : State} {H0 : Heap} {oa : Nat → Nat} {D : va_G} (K : fk s0 H0 oa D) (l : Launch) (n : Nat) (a0 : Nat) (a1 : Nat) (M : FM) (r : Int64 × FM) (h : FX73_load n a0 a1 M = some r) : fs_Con (fk_E s0 H0 oa D) l 7 ⟨"BoardMachine$Found", "load", "(LBoardMachine$Board;)J"⟩ prog_42_method_2_code 5 (Option.some Jvm.ClassFile.FieldType.long) [.ref a0, .ref a1] M (some (.long r.1)) r.2 := by
  have o0 : fs_OS (sX73_load (FX10_read n) FX11_load) 0 2 (fs_Con (fk_E s0 H0 oa D) l 6 ⟨"BoardMachine$Board", "read", "(LBoardMachine$Window;JI)J"⟩ prog_2_method_4_code 7 (Option.some Jvm.ClassFile.FieldType.long)) := by
    intro As M r h
    obtain ⟨v0, t0, rfl, g0⟩ := fe_tR_d h
    obtain ⟨v1, t1, rfl, g1⟩ := fe_tR_d g0
    obtain ⟨v2, t2, rfl, g2⟩ := fe_tL_d g1
    obtain ⟨v3, t3, rfl, g3⟩ := fe_tI_d g2
    obtain ⟨rfl, hz⟩ := fe_t0_d g3
    exact zX10_read K l n v0 v1 v2 v3 M r hz
  have o1 : fs_OS (sX73_load (FX10_read n) FX11_load) 1 2 (fs_Con (fk_E s0 H0 oa D) l 3 ⟨"BoardMachine$Memories$Ram", "load", "(JI)J"⟩ prog_82_method_6_code 10 (Option.some Jvm.ClassFile.FieldType.long)) := by
    intro As M r h
    obtain ⟨v0, t0, rfl, g0⟩ := fe_tR_d h
    obtain ⟨v1, t1, rfl, g1⟩ := fe_tL_d g0
    obtain ⟨v2, t2, rfl, g2⟩ := fe_tI_d g1
    obtain ⟨rfl, hz⟩ := fe_t0_d g2
    exact zX11_load K l v0 v1 v2 M r hz
  refine fs_method (own := "BoardMachine$Found") rfl (by decide) K.2.1 (by rw [fe_slen]; exact (Nat.le_of_ble_eq_true rfl)) (mX73_load n a0 a1 M r h) (hX73_load n) n rfl (L0 := [(0, .ref a0), (1, .ref a1)]) (fun E => fe_args_e E [.ref a0, .ref a1] 0) ((eX73_load (FX73_load_0 n (FX73_load_L61 n n)) (FX73_load_L61 n n) a0 a1 M).trans h) (fe_kl_k r) (fun H hR => fs_nr_o (by decide) (by decide)) ?_
  intro p e s m args below meth c Q C hnm
  have hw : s0.WarmedH s.vm := C.2.2.2.2.1
  refine fe_all C fk_hwr cX73_load [1, 9, 13, 19, 22, 27, 34, 38, 44, 47, 54, 71, 75, 82] (by decide +kernel) (fe_fil (cps := [(1, 4, .getfield 520261798), (9, 12, .getfield 520261798), (13, 16, .getfield 507678886), (19, 22, .getfield 511873188), (22, 25, .invokevirtual 18885643), (27, 30, .getfield 516067495), (34, 37, .getfield 75542574), (38, 41, .getfield 507678886), (44, 47, .getfield 511873188), (47, 50, .invokevirtual 81863753), (54, 57, .getfield 511873188), (71, 74, .getfield 75542574), (75, 78, .getfield 507678886), (82, 85, .invokevirtual 81863753)]) (by decide +kernel) ?_)
  refine fs_c1 (fs_getf (pc := 1) (n := 520261798) (idx := 13) (ref := "BoardMachine$Found") (O := "BoardMachine$Found") (name := "window") (desc := "LBoardMachine$Window;") C (by decide +kernel) (Or.inl (kw K hw q1674)) (fun _ h => h) (Nat.le_of_ble_eq_true rfl) (Nat.le_of_ble_eq_true rfl) (fs_one (⟨_, ff_41_124 s0 H0 oa D⟩))) ?_
  refine fs_c1 (fs_getf (pc := 9) (n := 520261798) (idx := 13) (ref := "BoardMachine$Found") (O := "BoardMachine$Found") (name := "window") (desc := "LBoardMachine$Window;") C (by decide +kernel) (Or.inl (kw K hw q1674)) (fun _ h => h) (Nat.le_of_ble_eq_true rfl) (Nat.le_of_ble_eq_true rfl) (fs_one (⟨_, ff_41_124 s0 H0 oa D⟩))) ?_
  refine fs_c1 (fs_getf (pc := 13) (n := 507678886) (idx := 7) (ref := "BoardMachine$Found") (O := "BoardMachine$Found") (name := "places") (desc := "[J") C (by decide +kernel) (Or.inl (kw K hw q1668)) (fun _ h => h) (Nat.le_of_ble_eq_true rfl) (Nat.le_of_ble_eq_true rfl) (fs_one (⟨_, ff_41_121 s0 H0 oa D⟩))) ?_
  refine fs_c1 (fs_getf (pc := 19) (n := 511873188) (idx := 17) (ref := "BoardMachine$Found") (O := "BoardMachine$Found") (name := "size") (desc := "I") C (by decide +kernel) (Or.inl (kw K hw q1670)) (fun _ h => h) (Nat.le_of_ble_eq_true rfl) (Nat.le_of_ble_eq_true rfl) (fs_one (⟨_, ff_41_122 s0 H0 oa D⟩))) ?_
  refine fs_c1 (fs_inv_virtual (pc := 22) (n := 18885643) C (Nat.le_of_ble_eq_true rfl) (Nat.le_of_ble_eq_true rfl) (fs_lk_virtual (idx := 21) (y := ⟨"BoardMachine$Board", "read", "(LBoardMachine$Window;JI)J"⟩) (bytes := prog_2_method_4_code) (maxL := 7) (rt := (Option.some Jvm.ClassFile.FieldType.long)) (d := 6) C (Nat.le_of_ble_eq_true rfl) (Nat.le_of_ble_eq_true rfl) (by decide +kernel) (kw K hw q3530) (kw K hw q320) (kw K hw q3528) (Or.inl (kw K hw q3527)) ⟨by decide, by decide⟩ rfl (Nat.le_of_ble_eq_true rfl) (Nat.le_of_ble_eq_true rfl) (fs_one (⟨_, rfl, kw K hw q3529⟩))) fs_con_mono o0) ?_
  refine fs_c1 (fs_getf (pc := 27) (n := 516067495) (idx := 27) (ref := "BoardMachine$Found") (O := "BoardMachine$Found") (name := "whole") (desc := "Z") C (by decide +kernel) (Or.inl (kw K hw q1672)) (fun _ h => h) (Nat.le_of_ble_eq_true rfl) (Nat.le_of_ble_eq_true rfl) (fs_one (⟨_, ff_41_123 s0 H0 oa D⟩))) ?_
  refine fs_c1 (fs_getf (pc := 34) (n := 75542574) (idx := 31) (ref := "BoardMachine$Board") (O := "BoardMachine$Board") (name := "ram") (desc := "LBoardMachine$Memories$Ram;") C (by decide +kernel) (Or.inr ⟨_, kF K hw q1039⟩) (fun _ h => h) (Nat.le_of_ble_eq_true rfl) (Nat.le_of_ble_eq_true rfl) (fs_one (⟨_, ff_11_18 s0 H0 oa D⟩))) ?_
  refine fs_c1 (fs_getf (pc := 38) (n := 507678886) (idx := 7) (ref := "BoardMachine$Found") (O := "BoardMachine$Found") (name := "places") (desc := "[J") C (by decide +kernel) (Or.inl (kw K hw q1668)) (fun _ h => h) (Nat.le_of_ble_eq_true rfl) (Nat.le_of_ble_eq_true rfl) (fs_one (⟨_, ff_41_121 s0 H0 oa D⟩))) ?_
  refine fs_c1 (fs_getf (pc := 44) (n := 511873188) (idx := 17) (ref := "BoardMachine$Found") (O := "BoardMachine$Found") (name := "size") (desc := "I") C (by decide +kernel) (Or.inl (kw K hw q1670)) (fun _ h => h) (Nat.le_of_ble_eq_true rfl) (Nat.le_of_ble_eq_true rfl) (fs_one (⟨_, ff_41_122 s0 H0 oa D⟩))) ?_
  refine fs_c1 (fs_inv_virtual (pc := 47) (n := 81863753) C (Nat.le_of_ble_eq_true rfl) (Nat.le_of_ble_eq_true rfl) (fs_lk_virtual (idx := 35) (y := ⟨"BoardMachine$Memories$Ram", "load", "(JI)J"⟩) (bytes := prog_82_method_6_code) (maxL := 10) (rt := (Option.some Jvm.ClassFile.FieldType.long)) (d := 3) C (Nat.le_of_ble_eq_true rfl) (Nat.le_of_ble_eq_true rfl) (by decide +kernel) (kw K hw q3062) (kw K hw q321) (kw K hw q3060) (Or.inl (kw K hw q3641)) ⟨by decide, by decide⟩ rfl (Nat.le_of_ble_eq_true rfl) (Nat.le_of_ble_eq_true rfl) (fs_one (⟨_, rfl, kw K hw q3061⟩))) fs_con_mono o1) ?_
  refine fs_c1 (fs_getf (pc := 54) (n := 511873188) (idx := 17) (ref := "BoardMachine$Found") (O := "BoardMachine$Found") (name := "size") (desc := "I") C (by decide +kernel) (Or.inl (kw K hw q1670)) (fun _ h => h) (Nat.le_of_ble_eq_true rfl) (Nat.le_of_ble_eq_true rfl) (fs_one (⟨_, ff_41_122 s0 H0 oa D⟩))) ?_
  refine fs_c1 (fs_getf (pc := 71) (n := 75542574) (idx := 31) (ref := "BoardMachine$Board") (O := "BoardMachine$Board") (name := "ram") (desc := "LBoardMachine$Memories$Ram;") C (by decide +kernel) (Or.inr ⟨_, kF K hw q1039⟩) (fun _ h => h) (Nat.le_of_ble_eq_true rfl) (Nat.le_of_ble_eq_true rfl) (fs_one (⟨_, ff_11_18 s0 H0 oa D⟩))) ?_
  refine fs_c1 (fs_getf (pc := 75) (n := 507678886) (idx := 7) (ref := "BoardMachine$Found") (O := "BoardMachine$Found") (name := "places") (desc := "[J") C (by decide +kernel) (Or.inl (kw K hw q1668)) (fun _ h => h) (Nat.le_of_ble_eq_true rfl) (Nat.le_of_ble_eq_true rfl) (fs_one (⟨_, ff_41_121 s0 H0 oa D⟩))) ?_
  refine fs_c1 (fs_inv_virtual (pc := 82) (n := 81863753) C (Nat.le_of_ble_eq_true rfl) (Nat.le_of_ble_eq_true rfl) (fs_lk_virtual (idx := 35) (y := ⟨"BoardMachine$Memories$Ram", "load", "(JI)J"⟩) (bytes := prog_82_method_6_code) (maxL := 10) (rt := (Option.some Jvm.ClassFile.FieldType.long)) (d := 3) C (Nat.le_of_ble_eq_true rfl) (Nat.le_of_ble_eq_true rfl) (by decide +kernel) (kw K hw q3062) (kw K hw q321) (kw K hw q3060) (Or.inl (kw K hw q3641)) ⟨by decide, by decide⟩ rfl (Nat.le_of_ble_eq_true rfl) (Nat.le_of_ble_eq_true rfl) (fs_one (⟨_, rfl, kw K hw q3061⟩))) fs_con_mono o1) ?_
  exact fs_c0
theorem hX57_finish : fe_H (sX57_finish FX48_set) cX57_finish [0, 32, 33, 74] fe_kv [] 48 (fun _ => dX57_finish FX57_finish_0 FX57_finish_32 FX57_finish_33 FX57_finish_74) := by
  intro j pc L st M r hc h
  rcases fe_mem_c hc with rfl | hc
  · obtain ⟨w0, m0, h⟩ := fe_lR_d h
    obtain ⟨w1, m1, h⟩ := fe_lR_d h
    obtain ⟨w2, m2, h⟩ := fe_lR_d h
    obtain ⟨w3, m3, h⟩ := fe_lL_d h
    obtain ⟨rfl, hz⟩ := fe_t0_d h
    exact ⟨[(0, .ref w0), (1, .ref w1), (2, .ref w2), (3, .long w3)], (fe_cs m0 (fe_cs m1 (fe_cs m2 (fe_cs m3 fe_nl)))), Or.inr ((bX57_finish_0 FX48_set FX57_finish_0 FX57_finish_32 FX57_finish_33 FX57_finish_74 w0 w1 w2 w3 M).symm.trans hz)⟩
  rcases fe_mem_c hc with rfl | hc
  · obtain ⟨w1, m1, h⟩ := fe_lR_d h
    obtain ⟨w2, m2, h⟩ := fe_lR_d h
    obtain ⟨w3, m3, h⟩ := fe_lL_d h
    obtain ⟨w5, m5, h⟩ := fe_lI_d h
    obtain ⟨rfl, hz⟩ := fe_t0_d h
    exact ⟨[(1, .ref w1), (2, .ref w2), (3, .long w3), (5, .int w5)], (fe_cs m1 (fe_cs m2 (fe_cs m3 (fe_cs m5 fe_nl)))), Or.inr ((bX57_finish_32 FX48_set FX57_finish_0 FX57_finish_32 FX57_finish_33 FX57_finish_74 w1 w2 w3 w5 M).symm.trans hz)⟩
  rcases fe_mem_c hc with rfl | hc
  · obtain ⟨w1, m1, h⟩ := fe_lR_d h
    obtain ⟨w2, m2, h⟩ := fe_lR_d h
    obtain ⟨w3, m3, h⟩ := fe_lL_d h
    obtain ⟨w5, m5, h⟩ := fe_lI_d h
    obtain ⟨s0, t0, rfl, g0⟩ := fe_tI_d h
    obtain ⟨rfl, hz⟩ := fe_t0_d g0
    exact ⟨[(1, .ref w1), (2, .ref w2), (3, .long w3), (5, .int w5)], (fe_cs m1 (fe_cs m2 (fe_cs m3 (fe_cs m5 fe_nl)))), Or.inr ((bX57_finish_33 FX48_set FX57_finish_0 FX57_finish_32 FX57_finish_33 FX57_finish_74 w1 w2 w3 w5 s0 M).symm.trans hz)⟩
  rcases fe_mem_c hc with rfl | hc
  · obtain ⟨s2, t2, rfl, g2⟩ := fe_tL_d h
    obtain ⟨s1, t1, rfl, g1⟩ := fe_tI_d g2
    obtain ⟨s0, t0, rfl, g0⟩ := fe_tR_d g1
    obtain ⟨rfl, hz⟩ := fe_t0_d g0
    exact ⟨[], fe_nl, Or.inr ((bX57_finish_74 FX48_set FX57_finish_0 FX57_finish_32 FX57_finish_33 FX57_finish_74 s0 s1 s2 M).symm.trans hz)⟩
  exact fe_mem_0 hc
theorem vX57_finish : fe_SB (sX57_finish FX48_set) := by
  refine ⟨?_, ?_, ?_, ?_⟩
  · intro i As M r h
    rcases fe_bc h with h | h
    · obtain ⟨v0, t0, rfl, g0⟩ := fe_tR_d h
      obtain ⟨v1, t1, rfl, g1⟩ := fe_tI_d g0
      obtain ⟨v2, t2, rfl, g2⟩ := fe_tL_d g1
      obtain ⟨rfl, hz⟩ := fe_t0_d g2
      exact mX48_set v0 v1 v2 M r hz
    exact fe_no h
  · intro i As M r h
    exact fe_no h
  · intro i As M r h
    exact fe_no h
  · intro i As M r h
    exact fe_no h
theorem eX57_finish (g0 : Nat → Nat → Nat → Int64 → FM → Option (FM)) (g32 : Nat → Nat → Int64 → Int32 → FM → Option (FM)) (g33 : Nat → Nat → Int64 → Int32 → Int32 → FM → Option (FM)) (g74 : Nat → Int32 → Int64 → FM → Option (FM)) (a0 : Nat) (a1 : Nat) (a2 : Nat) (a3 : Int64) (M : FM) : dX57_finish g0 g32 g33 g74 0 [(0, .ref a0), (1, .ref a1), (2, .ref a2), (3, .long a3)] [] M = g0 a0 a1 a2 a3 M := by rfl
theorem mX57_finish (a0 : Nat) (a1 : Nat) (a2 : Nat) (a3 : Int64) (M : FM) (r : FM) (h : FX57_finish a0 a1 a2 a3 M = some r) : fm_nx M ≤ fm_nx r ∧ fm_ns M ≤ fm_ns r :=
  fe_mono (L0 := [(0, .ref a0), (1, .ref a1), (2, .ref a2), (3, .long a3)]) (vX57_finish) (by decide +kernel) (hX57_finish) (fe_kv_k r) 0 rfl ((eX57_finish FX57_finish_0 FX57_finish_32 FX57_finish_33 FX57_finish_74 a0 a1 a2 a3 M).trans h)
theorem zX57_finish {s0 : State} {H0 : Heap} {oa : Nat → Nat} {D : va_G} (K : fk s0 H0 oa D) (l : Launch) (a0 : Nat) (a1 : Nat) (a2 : Nat) (a3 : Int64) (M : FM) (r : FM) (h : FX57_finish a0 a1 a2 a3 M = some r) : fs_Con (fk_E s0 H0 oa D) l 2 ⟨"BoardMachine$Integers$Access", "finish", "(LBoardMachine$Integers$Registers;LBoardMachine$Integers$Decoded;J)V"⟩ prog_58_method_4_code 7 (Option.none : Option Jvm.ClassFile.FieldType) [.ref a0, .ref a1, .ref a2, .long a3] M none r := by
  have o0 : fs_OS (sX57_finish FX48_set) 0 0 (fs_Con (fk_E s0 H0 oa D) l 1 ⟨"BoardMachine$Integers$Registers", "set", "(IJ)V"⟩ prog_71_method_2_code 4 (Option.none : Option Jvm.ClassFile.FieldType)) := by
    intro As M r h
    obtain ⟨v0, t0, rfl, g0⟩ := fe_tR_d h
    obtain ⟨v1, t1, rfl, g1⟩ := fe_tI_d g0
    obtain ⟨v2, t2, rfl, g2⟩ := fe_tL_d g1
    obtain ⟨rfl, hz⟩ := fe_t0_d g2
    exact zX48_set K l v0 v1 v2 M r hz
  refine fs_method (own := "BoardMachine$Integers$Access") rfl (by decide) K.2.1 (by rw [fe_slen]; exact (Nat.le_of_ble_eq_true rfl)) (mX57_finish a0 a1 a2 a3 M r h) (hX57_finish) 0 rfl (L0 := [(0, .ref a0), (1, .ref a1), (2, .ref a2), (3, .long a3)]) (fun E => fe_args_e E [.ref a0, .ref a1, .ref a2, .long a3] 0) ((eX57_finish FX57_finish_0 FX57_finish_32 FX57_finish_33 FX57_finish_74 a0 a1 a2 a3 M).trans h) (fe_kv_k r) (fun H hR => fs_nr_o (by decide) (by decide)) ?_
  intro p e s m args below meth c Q C hnm
  have hw : s0.WarmedH s.vm := C.2.2.2.2.1
  refine fe_all C fk_hwr cX57_finish [5, 13, 21, 37, 41, 74] (by decide +kernel) (fe_fil (cps := [(5, 8, .getfield 667144436), (13, 16, .getfield 662950132), (21, 24, .getfield 671338740), (37, 40, .getfield 633590004), (41, 44, .getfield 662950132), (74, 77, .invokevirtual 12648512)]) (by decide +kernel) ?_)
  refine fs_c1 (fs_getf (pc := 5) (n := 667144436) (idx := 28) (ref := "BoardMachine$Integers$Decoded") (O := "BoardMachine$Integers$Decoded") (name := "size") (desc := "I") C (by decide +kernel) (Or.inr ⟨_, kF K hw q3280⟩) (fun _ h => h) (Nat.le_of_ble_eq_true rfl) (Nat.le_of_ble_eq_true rfl) (fs_one (⟨_, ff_61_159 s0 H0 oa D⟩))) ?_
  refine fs_c1 (fs_getf (pc := 13) (n := 662950132) (idx := 9) (ref := "BoardMachine$Integers$Decoded") (O := "BoardMachine$Integers$Decoded") (name := "kind") (desc := "I") C (by decide +kernel) (Or.inr ⟨_, kF K hw q3276⟩) (fun _ h => h) (Nat.le_of_ble_eq_true rfl) (Nat.le_of_ble_eq_true rfl) (fs_one (⟨_, ff_61_158 s0 H0 oa D⟩))) ?_
  refine fs_c1 (fs_getf (pc := 21) (n := 671338740) (idx := 34) (ref := "BoardMachine$Integers$Decoded") (O := "BoardMachine$Integers$Decoded") (name := "sort") (desc := "I") C (by decide +kernel) (Or.inr ⟨_, kF K hw q3284⟩) (fun _ h => h) (Nat.le_of_ble_eq_true rfl) (Nat.le_of_ble_eq_true rfl) (fs_one (⟨_, ff_61_160 s0 H0 oa D⟩))) ?_
  refine fs_c1 (fs_getf (pc := 37) (n := 633590004) (idx := 37) (ref := "BoardMachine$Integers$Decoded") (O := "BoardMachine$Integers$Decoded") (name := "d") (desc := "I") C (by decide +kernel) (Or.inr ⟨_, kF K hw q3249⟩) (fun _ h => h) (Nat.le_of_ble_eq_true rfl) (Nat.le_of_ble_eq_true rfl) (fs_one (⟨_, ff_61_151 s0 H0 oa D⟩))) ?_
  refine fs_c1 (fs_getf (pc := 41) (n := 662950132) (idx := 9) (ref := "BoardMachine$Integers$Decoded") (O := "BoardMachine$Integers$Decoded") (name := "kind") (desc := "I") C (by decide +kernel) (Or.inr ⟨_, kF K hw q3276⟩) (fun _ h => h) (Nat.le_of_ble_eq_true rfl) (Nat.le_of_ble_eq_true rfl) (fs_one (⟨_, ff_61_158 s0 H0 oa D⟩))) ?_
  refine fs_c1 (fs_inv_virtual (pc := 74) (n := 12648512) C (Nat.le_of_ble_eq_true rfl) (Nat.le_of_ble_eq_true rfl) (fs_lk_virtual (idx := 40) (y := ⟨"BoardMachine$Integers$Registers", "set", "(IJ)V"⟩) (bytes := prog_71_method_2_code) (maxL := 4) (rt := (Option.none : Option Jvm.ClassFile.FieldType)) (d := 1) C (Nat.le_of_ble_eq_true rfl) (Nat.le_of_ble_eq_true rfl) (by decide +kernel) (kw K hw q2500) (kw K hw q359) (kw K hw q2498) (Or.inl (kw K hw q3652)) ⟨by decide, by decide⟩ rfl (Nat.le_of_ble_eq_true rfl) (Nat.le_of_ble_eq_true rfl) (fs_one (⟨_, rfl, kw K hw q2499⟩))) fs_con_mono o0) ?_
  exact fs_c0
theorem hX50_finish : fe_H (sX50_finish FX48_set) cX50_finish [0] fe_kv [] 20 (fun _ => dX50_finish FX50_finish_0) := by
  intro j pc L st M r hc h
  rcases fe_mem_c hc with rfl | hc
  · obtain ⟨w0, m0, h⟩ := fe_lR_d h
    obtain ⟨w1, m1, h⟩ := fe_lR_d h
    obtain ⟨w2, m2, h⟩ := fe_lR_d h
    obtain ⟨w3, m3, h⟩ := fe_lL_d h
    obtain ⟨rfl, hz⟩ := fe_t0_d h
    exact ⟨[(0, .ref w0), (1, .ref w1), (2, .ref w2), (3, .long w3)], (fe_cs m0 (fe_cs m1 (fe_cs m2 (fe_cs m3 fe_nl)))), Or.inr ((bX50_finish_0 FX48_set FX50_finish_0 w0 w1 w2 w3 M).symm.trans hz)⟩
  exact fe_mem_0 hc
theorem vX50_finish : fe_SB (sX50_finish FX48_set) := by
  refine ⟨?_, ?_, ?_, ?_⟩
  · intro i As M r h
    rcases fe_bc h with h | h
    · obtain ⟨v0, t0, rfl, g0⟩ := fe_tR_d h
      obtain ⟨v1, t1, rfl, g1⟩ := fe_tI_d g0
      obtain ⟨v2, t2, rfl, g2⟩ := fe_tL_d g1
      obtain ⟨rfl, hz⟩ := fe_t0_d g2
      exact mX48_set v0 v1 v2 M r hz
    exact fe_no h
  · intro i As M r h
    exact fe_no h
  · intro i As M r h
    exact fe_no h
  · intro i As M r h
    exact fe_no h
theorem eX50_finish (g0 : Nat → Nat → Nat → Int64 → FM → Option (FM)) (a0 : Nat) (a1 : Nat) (a2 : Nat) (a3 : Int64) (M : FM) : dX50_finish g0 0 [(0, .ref a0), (1, .ref a1), (2, .ref a2), (3, .long a3)] [] M = g0 a0 a1 a2 a3 M := by rfl
theorem mX50_finish (a0 : Nat) (a1 : Nat) (a2 : Nat) (a3 : Int64) (M : FM) (r : FM) (h : FX50_finish a0 a1 a2 a3 M = some r) : fm_nx M ≤ fm_nx r ∧ fm_ns M ≤ fm_ns r :=
  fe_mono (L0 := [(0, .ref a0), (1, .ref a1), (2, .ref a2), (3, .long a3)]) (vX50_finish) (by decide +kernel) (hX50_finish) (fe_kv_k r) 0 rfl ((eX50_finish FX50_finish_0 a0 a1 a2 a3 M).trans h)
theorem zX50_finish {s0 : State} {H0 : Heap} {oa : Nat → Nat} {D : va_G} (K : fk s0 H0 oa D) (l : Launch) (a0 : Nat) (a1 : Nat) (a2 : Nat) (a3 : Int64) (M : FM) (r : FM) (h : FX50_finish a0 a1 a2 a3 M = some r) : fs_Con (fk_E s0 H0 oa D) l 2 ⟨"BoardMachine$Integers$Action", "finish", "(LBoardMachine$Integers$Registers;LBoardMachine$Integers$Decoded;J)V"⟩ prog_59_method_4_code 5 (Option.none : Option Jvm.ClassFile.FieldType) [.ref a0, .ref a1, .ref a2, .long a3] M none r := by
  have o0 : fs_OS (sX50_finish FX48_set) 0 0 (fs_Con (fk_E s0 H0 oa D) l 1 ⟨"BoardMachine$Integers$Registers", "set", "(IJ)V"⟩ prog_71_method_2_code 4 (Option.none : Option Jvm.ClassFile.FieldType)) := by
    intro As M r h
    obtain ⟨v0, t0, rfl, g0⟩ := fe_tR_d h
    obtain ⟨v1, t1, rfl, g1⟩ := fe_tI_d g0
    obtain ⟨v2, t2, rfl, g2⟩ := fe_tL_d g1
    obtain ⟨rfl, hz⟩ := fe_t0_d g2
    exact zX48_set K l v0 v1 v2 M r hz
  refine fs_method (own := "BoardMachine$Integers$Action") rfl (by decide) K.2.1 (by rw [fe_slen]; exact (Nat.le_of_ble_eq_true rfl)) (mX50_finish a0 a1 a2 a3 M r h) (hX50_finish) 0 rfl (L0 := [(0, .ref a0), (1, .ref a1), (2, .ref a2), (3, .long a3)]) (fun E => fe_args_e E [.ref a0, .ref a1, .ref a2, .long a3] 0) ((eX50_finish FX50_finish_0 a0 a1 a2 a3 M).trans h) (fe_kv_k r) (fun H hR => fs_nr_o (by decide) (by decide)) ?_
  intro p e s m args below meth c Q C hnm
  have hw : s0.WarmedH s.vm := C.2.2.2.2.1
  refine fe_all C fk_hwr cX50_finish [2, 6] (by decide +kernel) (fe_fil (cps := [(2, 5, .getfield 633590004), (6, 9, .invokevirtual 12648512)]) (by decide +kernel) ?_)
  refine fs_c1 (fs_getf (pc := 2) (n := 633590004) (idx := 11) (ref := "BoardMachine$Integers$Decoded") (O := "BoardMachine$Integers$Decoded") (name := "d") (desc := "I") C (by decide +kernel) (Or.inr ⟨_, kF K hw q3250⟩) (fun _ h => h) (Nat.le_of_ble_eq_true rfl) (Nat.le_of_ble_eq_true rfl) (fs_one (⟨_, ff_61_151 s0 H0 oa D⟩))) ?_
  refine fs_c1 (fs_inv_virtual (pc := 6) (n := 12648512) C (Nat.le_of_ble_eq_true rfl) (Nat.le_of_ble_eq_true rfl) (fs_lk_virtual (idx := 17) (y := ⟨"BoardMachine$Integers$Registers", "set", "(IJ)V"⟩) (bytes := prog_71_method_2_code) (maxL := 4) (rt := (Option.none : Option Jvm.ClassFile.FieldType)) (d := 1) C (Nat.le_of_ble_eq_true rfl) (Nat.le_of_ble_eq_true rfl) (by decide +kernel) (kw K hw q2500) (kw K hw q359) (kw K hw q2498) (Or.inl (kw K hw q3661)) ⟨by decide, by decide⟩ rfl (Nat.le_of_ble_eq_true rfl) (Nat.le_of_ble_eq_true rfl) (fs_one (⟨_, rfl, kw K hw q2499⟩))) fs_con_mono o0) ?_
  exact fs_c0
theorem hX47_finish : fe_H (sX47_finish FX57_finish FX50_finish) cX47_finish [0, 25] fe_ki [] 38 (fun _ => dX47_finish FX47_finish_0 FX47_finish_25) := by
  intro j pc L st M r hc h
  rcases fe_mem_c hc with rfl | hc
  · obtain ⟨w0, m0, h⟩ := fe_lR_d h
    obtain ⟨w1, m1, h⟩ := fe_lI_d h
    obtain ⟨w2, m2, h⟩ := fe_lL_d h
    obtain ⟨rfl, hz⟩ := fe_t0_d h
    exact ⟨[(0, .ref w0), (1, .int w1), (2, .long w2)], (fe_cs m0 (fe_cs m1 (fe_cs m2 fe_nl))), Or.inr ((bX47_finish_0 FX57_finish FX50_finish FX47_finish_0 FX47_finish_25 w0 w1 w2 M).symm.trans hz)⟩
  rcases fe_mem_c hc with rfl | hc
  · obtain ⟨w0, m0, h⟩ := fe_lR_d h
    obtain ⟨w4, m4, h⟩ := fe_lR_d h
    obtain ⟨rfl, hz⟩ := fe_t0_d h
    exact ⟨[(0, .ref w0), (4, .ref w4)], (fe_cs m0 (fe_cs m4 fe_nl)), Or.inr ((bX47_finish_25 FX57_finish FX50_finish FX47_finish_0 FX47_finish_25 w0 w4 M).symm.trans hz)⟩
  exact fe_mem_0 hc
theorem vX47_finish : fe_SB (sX47_finish FX57_finish FX50_finish) := by
  refine ⟨?_, ?_, ?_, ?_⟩
  · intro i As M r h
    rcases fe_bc h with h | h
    · obtain ⟨v0, t0, rfl, g0⟩ := fe_tR_d h
      obtain ⟨v1, t1, rfl, g1⟩ := fe_tR_d g0
      obtain ⟨v2, t2, rfl, g2⟩ := fe_tR_d g1
      obtain ⟨v3, t3, rfl, g3⟩ := fe_tL_d g2
      obtain ⟨rfl, hz⟩ := fe_t0_d g3
      exact mX57_finish v0 v1 v2 v3 M r hz
    rcases fe_bc h with h | h
    · obtain ⟨v0, t0, rfl, g0⟩ := fe_tR_d h
      obtain ⟨v1, t1, rfl, g1⟩ := fe_tR_d g0
      obtain ⟨v2, t2, rfl, g2⟩ := fe_tR_d g1
      obtain ⟨v3, t3, rfl, g3⟩ := fe_tL_d g2
      obtain ⟨rfl, hz⟩ := fe_t0_d g3
      exact mX50_finish v0 v1 v2 v3 M r hz
    exact fe_no h
  · intro i As M r h
    exact fe_no h
  · intro i As M r h
    exact fe_no h
  · intro i As M r h
    exact fe_no h
theorem eX47_finish (g0 : Nat → Int32 → Int64 → FM → Option (Int32 × FM)) (g25 : Nat → Nat → FM → Option (Int32 × FM)) (a0 : Nat) (a1 : Int32) (a2 : Int64) (M : FM) : dX47_finish g0 g25 0 [(0, .ref a0), (1, .int a1), (2, .long a2)] [] M = g0 a0 a1 a2 M := by rfl
theorem mX47_finish (a0 : Nat) (a1 : Int32) (a2 : Int64) (M : FM) (r : Int32 × FM) (h : FX47_finish a0 a1 a2 M = some r) : fm_nx M ≤ fm_nx r.2 ∧ fm_ns M ≤ fm_ns r.2 :=
  fe_mono (L0 := [(0, .ref a0), (1, .int a1), (2, .long a2)]) (vX47_finish) (by decide +kernel) (hX47_finish) (fe_ki_k r) 0 rfl ((eX47_finish FX47_finish_0 FX47_finish_25 a0 a1 a2 M).trans h)
theorem zX47_finish {s0 : State} {H0 : Heap} {oa : Nat → Nat} {D : va_G} (K : fk s0 H0 oa D) (l : Launch) (a0 : Nat) (a1 : Int32) (a2 : Int64) (M : FM) (r : Int32 × FM) (h : FX47_finish a0 a1 a2 M = some r) : fs_Con (fk_E s0 H0 oa D) l 3 ⟨"BoardMachine$Integers$IntegerUnit", "finish", "(ZJ)I"⟩ prog_69_method_6_code 5 (Option.some Jvm.ClassFile.FieldType.int) [.ref a0, .int a1, .long a2] M (some (.int r.1)) r.2 := by
  have o0 : fs_OS (sX47_finish FX57_finish FX50_finish) 0 0 (fs_Con (fk_E s0 H0 oa D) l 2 ⟨"BoardMachine$Integers$Access", "finish", "(LBoardMachine$Integers$Registers;LBoardMachine$Integers$Decoded;J)V"⟩ prog_58_method_4_code 7 (Option.none : Option Jvm.ClassFile.FieldType)) := by
    intro As M r h
    obtain ⟨v0, t0, rfl, g0⟩ := fe_tR_d h
    obtain ⟨v1, t1, rfl, g1⟩ := fe_tR_d g0
    obtain ⟨v2, t2, rfl, g2⟩ := fe_tR_d g1
    obtain ⟨v3, t3, rfl, g3⟩ := fe_tL_d g2
    obtain ⟨rfl, hz⟩ := fe_t0_d g3
    exact zX57_finish K l v0 v1 v2 v3 M r hz
  have o1 : fs_OS (sX47_finish FX57_finish FX50_finish) 1 0 (fs_Con (fk_E s0 H0 oa D) l 2 ⟨"BoardMachine$Integers$Action", "finish", "(LBoardMachine$Integers$Registers;LBoardMachine$Integers$Decoded;J)V"⟩ prog_59_method_4_code 5 (Option.none : Option Jvm.ClassFile.FieldType)) := by
    intro As M r h
    obtain ⟨v0, t0, rfl, g0⟩ := fe_tR_d h
    obtain ⟨v1, t1, rfl, g1⟩ := fe_tR_d g0
    obtain ⟨v2, t2, rfl, g2⟩ := fe_tR_d g1
    obtain ⟨v3, t3, rfl, g3⟩ := fe_tL_d g2
    obtain ⟨rfl, hz⟩ := fe_t0_d g3
    exact zX50_finish K l v0 v1 v2 v3 M r hz
  refine fs_method (own := "BoardMachine$Integers$IntegerUnit") rfl (by decide) K.2.1 (by rw [fe_slen]; exact (Nat.le_of_ble_eq_true rfl)) (mX47_finish a0 a1 a2 M r h) (hX47_finish) 0 rfl (L0 := [(0, .ref a0), (1, .int a1), (2, .long a2)]) (fun E => fe_args_e E [.ref a0, .int a1, .long a2] 0) ((eX47_finish FX47_finish_0 FX47_finish_25 a0 a1 a2 M).trans h) (fe_ki_k r) (fun H hR => fs_nr_o (by decide) (by decide)) ?_
  intro p e s m args below meth c Q C hnm
  have hw : s0.WarmedH s.vm := C.2.2.2.2.1
  refine fe_all C fk_hwr cX47_finish [1, 12, 16, 22, 26, 30, 34, 39, 44, 49, 54, 59] (by decide +kernel) (fe_fil (cps := [(1, 4, .getfield 730067198), (12, 15, .getfield 625201398), (16, 19, .getfield 717484286), (22, 25, .invokeinterface 0 0), (26, 29, .getfield 717484286), (30, 33, .getfield 751042817), (34, 37, .getfield 738455804), (39, 42, .putfield 751042817), (44, 47, .putfield 730067198), (49, 52, .getfield 742650109), (54, 57, .putfield 742650109), (59, 62, .getfield 662950132)]) (by decide +kernel) ?_)
  refine fs_c1 (fs_getf (pc := 1) (n := 730067198) (idx := 50) (ref := "BoardMachine$Integers$IntegerUnit") (O := "BoardMachine$Integers$IntegerUnit") (name := "underWay") (desc := "LBoardMachine$Integers$Decoded;") C (by decide +kernel) (Or.inl (kw K hw q1408)) (fun _ h => h) (Nat.le_of_ble_eq_true rfl) (Nat.le_of_ble_eq_true rfl) (fs_one (⟨_, ff_63_174 s0 H0 oa D⟩))) ?_
  refine fs_c1 (fs_getf (pc := 12) (n := 625201398) (idx := 58) (ref := "BoardMachine$Integers$Decoded") (O := "BoardMachine$Integers$Decoded") (name := "action") (desc := "LBoardMachine$Integers$Action;") C (by decide +kernel) (Or.inr ⟨_, kF K hw q3241⟩) (fun _ h => h) (Nat.le_of_ble_eq_true rfl) (Nat.le_of_ble_eq_true rfl) (fs_one (⟨_, ff_61_149 s0 H0 oa D⟩))) ?_
  refine fs_c1 (fs_getf (pc := 16) (n := 717484286) (idx := 12) (ref := "BoardMachine$Integers$IntegerUnit") (O := "BoardMachine$Integers$IntegerUnit") (name := "registers") (desc := "LBoardMachine$Integers$Registers;") C (by decide +kernel) (Or.inl (kw K hw q1403)) (fun _ h => h) (Nat.le_of_ble_eq_true rfl) (Nat.le_of_ble_eq_true rfl) (fs_one (⟨_, ff_63_171 s0 H0 oa D⟩))) ?_
  refine fs_c1 (fs_inv_table (pc := 22) (nx := 25) (i := 0) (k := 0) C rfl (List.forall_mem_cons.mpr ⟨⟨(Nat.le_of_ble_eq_true rfl), (Nat.le_of_ble_eq_true rfl), _, fs_lk_up (idx := 80) (x := ⟨"BoardMachine$Integers$Action", "finish", "(LBoardMachine$Integers$Registers;LBoardMachine$Integers$Decoded;J)V"⟩) (owner := "BoardMachine$Integers$Action") (y := ⟨"BoardMachine$Integers$Access", "finish", "(LBoardMachine$Integers$Registers;LBoardMachine$Integers$Decoded;J)V"⟩) (bytes := prog_58_method_4_code) (maxL := 7) (rt := (Option.none : Option Jvm.ClassFile.FieldType)) (d := 2) C (Nat.le_of_ble_eq_true rfl) (Nat.le_of_ble_eq_true rfl) (by decide +kernel) (kw K hw q3651) (kw K hw q368) (kw K hw q3650) (kw K hw q3646) (kw K hw q3648) (va_Decl.of (kw (args := args) K hw q3647) (kw K hw q3660)) ⟨by decide, by decide⟩ rfl (Nat.le_of_ble_eq_true rfl) (Nat.le_of_ble_eq_true rfl) (fs_one (⟨_, rfl, kw K hw q3649⟩)), fs_con_mono, o0⟩, List.forall_mem_cons.mpr ⟨⟨(Nat.le_of_ble_eq_true rfl), (Nat.le_of_ble_eq_true rfl), _, fs_lk_up (idx := 80) (x := ⟨"BoardMachine$Integers$Action", "finish", "(LBoardMachine$Integers$Registers;LBoardMachine$Integers$Decoded;J)V"⟩) (owner := "BoardMachine$Integers$Action") (y := ⟨"BoardMachine$Integers$Action", "finish", "(LBoardMachine$Integers$Registers;LBoardMachine$Integers$Decoded;J)V"⟩) (bytes := prog_59_method_4_code) (maxL := 5) (rt := (Option.none : Option Jvm.ClassFile.FieldType)) (d := 2) C (Nat.le_of_ble_eq_true rfl) (Nat.le_of_ble_eq_true rfl) (by decide +kernel) (kw K hw q3660) (kw K hw q361) (kw K hw q3647) (kw K hw q3646) (kw K hw q3648) (va_Decl.of (kw (args := args) K hw q3647) (kw K hw q3660)) ⟨by decide, by decide⟩ rfl (Nat.le_of_ble_eq_true rfl) (Nat.le_of_ble_eq_true rfl) (fs_one (⟨_, rfl, kw K hw q3653⟩)), fs_con_mono, o1⟩, List.forall_mem_cons.mpr ⟨⟨(Nat.le_of_ble_eq_true rfl), (Nat.le_of_ble_eq_true rfl), _, fs_lk_up (idx := 80) (x := ⟨"BoardMachine$Integers$Action", "finish", "(LBoardMachine$Integers$Registers;LBoardMachine$Integers$Decoded;J)V"⟩) (owner := "BoardMachine$Integers$Action") (y := ⟨"BoardMachine$Integers$Action", "finish", "(LBoardMachine$Integers$Registers;LBoardMachine$Integers$Decoded;J)V"⟩) (bytes := prog_59_method_4_code) (maxL := 5) (rt := (Option.none : Option Jvm.ClassFile.FieldType)) (d := 2) C (Nat.le_of_ble_eq_true rfl) (Nat.le_of_ble_eq_true rfl) (by decide +kernel) (kw K hw q3660) (kw K hw q361) (kw K hw q3647) (kw K hw q3646) (kw K hw q3648) (va_Decl.of (kw (args := args) K hw q3647) (kw K hw q3660)) ⟨by decide, by decide⟩ rfl (Nat.le_of_ble_eq_true rfl) (Nat.le_of_ble_eq_true rfl) (fs_one (⟨_, rfl, kw K hw q3654⟩)), fs_con_mono, o1⟩, List.forall_mem_cons.mpr ⟨⟨(Nat.le_of_ble_eq_true rfl), (Nat.le_of_ble_eq_true rfl), _, fs_lk_up (idx := 80) (x := ⟨"BoardMachine$Integers$Action", "finish", "(LBoardMachine$Integers$Registers;LBoardMachine$Integers$Decoded;J)V"⟩) (owner := "BoardMachine$Integers$Action") (y := ⟨"BoardMachine$Integers$Action", "finish", "(LBoardMachine$Integers$Registers;LBoardMachine$Integers$Decoded;J)V"⟩) (bytes := prog_59_method_4_code) (maxL := 5) (rt := (Option.none : Option Jvm.ClassFile.FieldType)) (d := 2) C (Nat.le_of_ble_eq_true rfl) (Nat.le_of_ble_eq_true rfl) (by decide +kernel) (kw K hw q3660) (kw K hw q361) (kw K hw q3647) (kw K hw q3646) (kw K hw q3648) (va_Decl.of (kw (args := args) K hw q3647) (kw K hw q3660)) ⟨by decide, by decide⟩ rfl (Nat.le_of_ble_eq_true rfl) (Nat.le_of_ble_eq_true rfl) (fs_one (⟨_, rfl, kw K hw q3655⟩)), fs_con_mono, o1⟩, List.forall_mem_cons.mpr ⟨⟨(Nat.le_of_ble_eq_true rfl), (Nat.le_of_ble_eq_true rfl), _, fs_lk_up (idx := 80) (x := ⟨"BoardMachine$Integers$Action", "finish", "(LBoardMachine$Integers$Registers;LBoardMachine$Integers$Decoded;J)V"⟩) (owner := "BoardMachine$Integers$Action") (y := ⟨"BoardMachine$Integers$Action", "finish", "(LBoardMachine$Integers$Registers;LBoardMachine$Integers$Decoded;J)V"⟩) (bytes := prog_59_method_4_code) (maxL := 5) (rt := (Option.none : Option Jvm.ClassFile.FieldType)) (d := 2) C (Nat.le_of_ble_eq_true rfl) (Nat.le_of_ble_eq_true rfl) (by decide +kernel) (kw K hw q3660) (kw K hw q361) (kw K hw q3647) (kw K hw q3646) (kw K hw q3648) (va_Decl.of (kw (args := args) K hw q3647) (kw K hw q3660)) ⟨by decide, by decide⟩ rfl (Nat.le_of_ble_eq_true rfl) (Nat.le_of_ble_eq_true rfl) (fs_one (⟨_, rfl, kw K hw q3656⟩)), fs_con_mono, o1⟩, List.forall_mem_cons.mpr ⟨⟨(Nat.le_of_ble_eq_true rfl), (Nat.le_of_ble_eq_true rfl), _, fs_lk_up (idx := 80) (x := ⟨"BoardMachine$Integers$Action", "finish", "(LBoardMachine$Integers$Registers;LBoardMachine$Integers$Decoded;J)V"⟩) (owner := "BoardMachine$Integers$Action") (y := ⟨"BoardMachine$Integers$Action", "finish", "(LBoardMachine$Integers$Registers;LBoardMachine$Integers$Decoded;J)V"⟩) (bytes := prog_59_method_4_code) (maxL := 5) (rt := (Option.none : Option Jvm.ClassFile.FieldType)) (d := 2) C (Nat.le_of_ble_eq_true rfl) (Nat.le_of_ble_eq_true rfl) (by decide +kernel) (kw K hw q3660) (kw K hw q361) (kw K hw q3647) (kw K hw q3646) (kw K hw q3648) (va_Decl.of (kw (args := args) K hw q3647) (kw K hw q3660)) ⟨by decide, by decide⟩ rfl (Nat.le_of_ble_eq_true rfl) (Nat.le_of_ble_eq_true rfl) (fs_one (⟨_, rfl, kw K hw q3657⟩)), fs_con_mono, o1⟩, List.forall_mem_cons.mpr ⟨⟨(Nat.le_of_ble_eq_true rfl), (Nat.le_of_ble_eq_true rfl), _, fs_lk_up (idx := 80) (x := ⟨"BoardMachine$Integers$Action", "finish", "(LBoardMachine$Integers$Registers;LBoardMachine$Integers$Decoded;J)V"⟩) (owner := "BoardMachine$Integers$Action") (y := ⟨"BoardMachine$Integers$Action", "finish", "(LBoardMachine$Integers$Registers;LBoardMachine$Integers$Decoded;J)V"⟩) (bytes := prog_59_method_4_code) (maxL := 5) (rt := (Option.none : Option Jvm.ClassFile.FieldType)) (d := 2) C (Nat.le_of_ble_eq_true rfl) (Nat.le_of_ble_eq_true rfl) (by decide +kernel) (kw K hw q3660) (kw K hw q361) (kw K hw q3647) (kw K hw q3646) (kw K hw q3648) (va_Decl.of (kw (args := args) K hw q3647) (kw K hw q3660)) ⟨by decide, by decide⟩ rfl (Nat.le_of_ble_eq_true rfl) (Nat.le_of_ble_eq_true rfl) (fs_one (⟨_, rfl, kw K hw q3658⟩)), fs_con_mono, o1⟩, List.forall_mem_cons.mpr ⟨⟨(Nat.le_of_ble_eq_true rfl), (Nat.le_of_ble_eq_true rfl), _, fs_lk_up (idx := 80) (x := ⟨"BoardMachine$Integers$Action", "finish", "(LBoardMachine$Integers$Registers;LBoardMachine$Integers$Decoded;J)V"⟩) (owner := "BoardMachine$Integers$Action") (y := ⟨"BoardMachine$Integers$Action", "finish", "(LBoardMachine$Integers$Registers;LBoardMachine$Integers$Decoded;J)V"⟩) (bytes := prog_59_method_4_code) (maxL := 5) (rt := (Option.none : Option Jvm.ClassFile.FieldType)) (d := 2) C (Nat.le_of_ble_eq_true rfl) (Nat.le_of_ble_eq_true rfl) (by decide +kernel) (kw K hw q3660) (kw K hw q361) (kw K hw q3647) (kw K hw q3646) (kw K hw q3648) (va_Decl.of (kw (args := args) K hw q3647) (kw K hw q3660)) ⟨by decide, by decide⟩ rfl (Nat.le_of_ble_eq_true rfl) (Nat.le_of_ble_eq_true rfl) (fs_one (⟨_, rfl, kw K hw q3659⟩)), fs_con_mono, o1⟩, List.forall_mem_nil _⟩⟩⟩⟩⟩⟩⟩⟩)) ?_
  refine fs_c1 (fs_getf (pc := 26) (n := 717484286) (idx := 12) (ref := "BoardMachine$Integers$IntegerUnit") (O := "BoardMachine$Integers$IntegerUnit") (name := "registers") (desc := "LBoardMachine$Integers$Registers;") C (by decide +kernel) (Or.inl (kw K hw q1403)) (fun _ h => h) (Nat.le_of_ble_eq_true rfl) (Nat.le_of_ble_eq_true rfl) (fs_one (⟨_, ff_63_171 s0 H0 oa D⟩))) ?_
  refine fs_c1 (fs_getf (pc := 30) (n := 751042817) (idx := 46) (ref := "BoardMachine$Integers$Registers") (O := "BoardMachine$Integers$Registers") (name := "counter") (desc := "J") C (by decide +kernel) (Or.inr ⟨_, kF K hw q1292⟩) (fun _ h => h) (Nat.le_of_ble_eq_true rfl) (Nat.le_of_ble_eq_true rfl) (fs_one (⟨_, ff_64_179 s0 H0 oa D⟩))) ?_
  refine fs_c1 (fs_getf (pc := 34) (n := 738455804) (idx := 68) (ref := "BoardMachine$Integers$IntegerUnit") (O := "BoardMachine$Integers$IntegerUnit") (name := "longing") (desc := "I") C (by decide +kernel) (Or.inl (kw K hw q1410)) (fun _ h => h) (Nat.le_of_ble_eq_true rfl) (Nat.le_of_ble_eq_true rfl) (fs_one (⟨_, ff_63_176 s0 H0 oa D⟩))) ?_
  refine fs_c1 (fs_putf (pc := 39) (n := 751042817) (idx := 46) (ref := "BoardMachine$Integers$Registers") (O := "BoardMachine$Integers$Registers") (name := "counter") (desc := "J") (fin := false) (ty := .long) C (by decide +kernel) (Or.inl ⟨rfl, Or.inr ⟨_, kF K hw q1292⟩⟩) (fun _ h => h) (Nat.le_of_ble_eq_true rfl) (Nat.le_of_ble_eq_true rfl) (Nat.le_of_ble_eq_true rfl) rfl rfl (by decide) (fs_one (⟨rfl, ff_64_179 s0 H0 oa D⟩))) ?_
  refine fs_c1 (fs_putf (pc := 44) (n := 730067198) (idx := 50) (ref := "BoardMachine$Integers$IntegerUnit") (O := "BoardMachine$Integers$IntegerUnit") (name := "underWay") (desc := "LBoardMachine$Integers$Decoded;") (fin := false) (ty := (.object "BoardMachine$Integers$Decoded")) C (by decide +kernel) (Or.inl ⟨rfl, Or.inl (kw K hw q1408)⟩) (fun _ h => h) (Nat.le_of_ble_eq_true rfl) (Nat.le_of_ble_eq_true rfl) (Nat.le_of_ble_eq_true rfl) rfl rfl (by decide) (fs_one (⟨rfl, ff_63_174 s0 H0 oa D⟩))) ?_
  refine fs_c1 (fs_getf (pc := 49) (n := 742650109) (idx := 75) (ref := "BoardMachine$Integers$IntegerUnit") (O := "BoardMachine$Integers$IntegerUnit") (name := "finished") (desc := "J") C (by decide +kernel) (Or.inl (kw K hw q1411)) (fun _ h => h) (Nat.le_of_ble_eq_true rfl) (Nat.le_of_ble_eq_true rfl) (fs_one (⟨_, ff_63_177 s0 H0 oa D⟩))) ?_
  refine fs_c1 (fs_putf (pc := 54) (n := 742650109) (idx := 75) (ref := "BoardMachine$Integers$IntegerUnit") (O := "BoardMachine$Integers$IntegerUnit") (name := "finished") (desc := "J") (fin := false) (ty := .long) C (by decide +kernel) (Or.inl ⟨rfl, Or.inl (kw K hw q1411)⟩) (fun _ h => h) (Nat.le_of_ble_eq_true rfl) (Nat.le_of_ble_eq_true rfl) (Nat.le_of_ble_eq_true rfl) rfl rfl (by decide) (fs_one (⟨rfl, ff_63_177 s0 H0 oa D⟩))) ?_
  refine fs_c1 (fs_getf (pc := 59) (n := 662950132) (idx := 84) (ref := "BoardMachine$Integers$Decoded") (O := "BoardMachine$Integers$Decoded") (name := "kind") (desc := "I") C (by decide +kernel) (Or.inr ⟨_, kF K hw q3278⟩) (fun _ h => h) (Nat.le_of_ble_eq_true rfl) (Nat.le_of_ble_eq_true rfl) (fs_one (⟨_, ff_61_158 s0 H0 oa D⟩))) ?_
  exact fs_c0
theorem hX46_load (n : Nat) : fe_H (sX46_load FX47_wanted (FX46_locate n) (FX73_load n) FX47_finish) cX46_load [0] fe_ki [] 32 (fun _ => dX46_load (FX46_load_0 n)) := by
  intro j pc L st M r hc h
  rcases fe_mem_c hc with rfl | hc
  · obtain ⟨w0, m0, h⟩ := fe_lR_d h
    obtain ⟨rfl, hz⟩ := fe_t0_d h
    exact ⟨[(0, .ref w0)], (fe_cs m0 fe_nl), Or.inr ((bX46_load_0 FX47_wanted (FX46_locate n) (FX73_load n) FX47_finish (FX46_load_0 n ) w0 M).symm.trans hz)⟩
  exact fe_mem_0 hc
theorem vX46_load (n : Nat) : fe_SB (sX46_load FX47_wanted (FX46_locate n) (FX73_load n) FX47_finish) := by
  refine ⟨?_, ?_, ?_, ?_⟩
  · intro i As M r h
    exact fe_no h
  · intro i As M r h
    rcases fe_bc h with h | h
    · obtain ⟨v0, t0, rfl, g0⟩ := fe_tR_d h
      obtain ⟨v1, t1, rfl, g1⟩ := fe_tL_d g0
      obtain ⟨v2, t2, rfl, g2⟩ := fe_tI_d g1
      obtain ⟨v3, t3, rfl, g3⟩ := fe_tI_d g2
      obtain ⟨rfl, hz⟩ := fe_t0_d g3
      exact mX46_locate n v0 v1 v2 v3 M r hz
    rcases fe_bc h with h | h
    · obtain ⟨v0, t0, rfl, g0⟩ := fe_tR_d h
      obtain ⟨v1, t1, rfl, g1⟩ := fe_tI_d g0
      obtain ⟨v2, t2, rfl, g2⟩ := fe_tL_d g1
      obtain ⟨rfl, hz⟩ := fe_t0_d g2
      exact mX47_finish v0 v1 v2 M r hz
    exact fe_no h
  · intro i As M r h
    rcases fe_bc h with h | h
    · obtain ⟨v0, t0, rfl, g0⟩ := fe_tR_d h
      obtain ⟨v1, t1, rfl, g1⟩ := fe_tI_d g0
      obtain ⟨rfl, hz⟩ := fe_t0_d g1
      exact mX47_wanted v0 v1 M r hz
    rcases fe_bc h with h | h
    · obtain ⟨v0, t0, rfl, g0⟩ := fe_tR_d h
      obtain ⟨v1, t1, rfl, g1⟩ := fe_tR_d g0
      obtain ⟨rfl, hz⟩ := fe_t0_d g1
      exact mX73_load n v0 v1 M r hz
    exact fe_no h
  · intro i As M r h
    exact fe_no h
theorem eX46_load (g0 : Nat → FM → Option (Int32 × FM)) (a0 : Nat) (M : FM) : dX46_load g0 0 [(0, .ref a0)] [] M = g0 a0 M := by rfl
theorem mX46_load (n : Nat) (a0 : Nat) (M : FM) (r : Int32 × FM) (h : FX46_load n a0 M = some r) : fm_nx M ≤ fm_nx r.2 ∧ fm_ns M ≤ fm_ns r.2 :=
  fe_mono (L0 := [(0, .ref a0)]) (vX46_load n) (by decide +kernel) (hX46_load n) (fe_ki_k r) 0 rfl ((eX46_load (FX46_load_0 n ) a0 M).trans h)
theorem zX46_load {s0 : State} {H0 : Heap} {oa : Nat → Nat} {D : va_G} (K : fk s0 H0 oa D) (l : Launch) (n : Nat) (a0 : Nat) (M : FM) (r : Int32 × FM) (h : FX46_load n a0 M = some r) : fs_Con (fk_E s0 H0 oa D) l 11 ⟨"BoardMachine$Processor", "load", "()Z"⟩ prog_86_method_16_code 1 (Option.some Jvm.ClassFile.FieldType.boolean) [.ref a0] M (some (.int r.1)) r.2 := by
  have o0 : fs_OS (sX46_load FX47_wanted (FX46_locate n) (FX73_load n) FX47_finish) 0 2 (fs_Con (fk_E s0 H0 oa D) l 1 ⟨"BoardMachine$Integers$IntegerUnit", "wanted", "(I)J"⟩ prog_69_method_5_code 2 (Option.some Jvm.ClassFile.FieldType.long)) := by
    intro As M r h
    obtain ⟨v0, t0, rfl, g0⟩ := fe_tR_d h
    obtain ⟨v1, t1, rfl, g1⟩ := fe_tI_d g0
    obtain ⟨rfl, hz⟩ := fe_t0_d g1
    exact zX47_wanted K l v0 v1 M r hz
  have o1 : fs_OS (sX46_load FX47_wanted (FX46_locate n) (FX73_load n) FX47_finish) 1 1 (fs_Con (fk_E s0 H0 oa D) l 10 ⟨"BoardMachine$Processor", "locate", "(JII)Z"⟩ prog_86_method_12_code 9 (Option.some Jvm.ClassFile.FieldType.boolean)) := by
    intro As M r h
    obtain ⟨v0, t0, rfl, g0⟩ := fe_tR_d h
    obtain ⟨v1, t1, rfl, g1⟩ := fe_tL_d g0
    obtain ⟨v2, t2, rfl, g2⟩ := fe_tI_d g1
    obtain ⟨v3, t3, rfl, g3⟩ := fe_tI_d g2
    obtain ⟨rfl, hz⟩ := fe_t0_d g3
    exact zX46_locate K l n v0 v1 v2 v3 M r hz
  have o2 : fs_OS (sX46_load FX47_wanted (FX46_locate n) (FX73_load n) FX47_finish) 2 2 (fs_Con (fk_E s0 H0 oa D) l 7 ⟨"BoardMachine$Found", "load", "(LBoardMachine$Board;)J"⟩ prog_42_method_2_code 5 (Option.some Jvm.ClassFile.FieldType.long)) := by
    intro As M r h
    obtain ⟨v0, t0, rfl, g0⟩ := fe_tR_d h
    obtain ⟨v1, t1, rfl, g1⟩ := fe_tR_d g0
    obtain ⟨rfl, hz⟩ := fe_t0_d g1
    exact zX73_load K l n v0 v1 M r hz
  have o3 : fs_OS (sX46_load FX47_wanted (FX46_locate n) (FX73_load n) FX47_finish) 3 1 (fs_Con (fk_E s0 H0 oa D) l 3 ⟨"BoardMachine$Integers$IntegerUnit", "finish", "(ZJ)I"⟩ prog_69_method_6_code 5 (Option.some Jvm.ClassFile.FieldType.int)) := by
    intro As M r h
    obtain ⟨v0, t0, rfl, g0⟩ := fe_tR_d h
    obtain ⟨v1, t1, rfl, g1⟩ := fe_tI_d g0
    obtain ⟨v2, t2, rfl, g2⟩ := fe_tL_d g1
    obtain ⟨rfl, hz⟩ := fe_t0_d g2
    exact zX47_finish K l v0 v1 v2 M r hz
  refine fs_method (own := "BoardMachine$Processor") rfl (by decide) K.2.1 (by rw [fe_slen]; exact (Nat.le_of_ble_eq_true rfl)) (mX46_load n a0 M r h) (hX46_load n) 0 rfl (L0 := [(0, .ref a0)]) (fun E => fe_args_e E [.ref a0] 0) ((eX46_load (FX46_load_0 n ) a0 M).trans h) (fe_ki_k r) (fun H hR => fs_nr_o (by decide) (by decide)) ?_
  intro p e s m args below meth c Q C hnm
  have hw : s0.WarmedH s.vm := C.2.2.2.2.1
  refine fe_all C fk_hwr cX46_load [2, 6, 11, 15, 19, 28, 33, 37, 40, 43] (by decide +kernel) (fe_fil (cps := [(2, 5, .getfield 885305646), (6, 9, .invokevirtual 10550335), (11, 14, .getfield 885305646), (15, 18, .invokevirtual 10550335), (19, 22, .invokevirtual 85011531), (28, 31, .getfield 885305646), (33, 36, .getfield 910471470), (37, 40, .getfield 881111342), (40, 43, .invokevirtual 144745513), (43, 46, .invokevirtual 215022655)]) (by decide +kernel) ?_)
  refine fs_c1 (fs_getf (pc := 2) (n := 885305646) (idx := 12) (ref := "BoardMachine$Processor") (O := "BoardMachine$Processor") (name := "integers") (desc := "LBoardMachine$Integers$IntegerUnit;") C (by decide +kernel) (Or.inl (kw K hw q2078)) (fun _ h => h) (Nat.le_of_ble_eq_true rfl) (Nat.le_of_ble_eq_true rfl) (fs_one (⟨_, ff_75_211 s0 H0 oa D⟩))) ?_
  refine fs_c1 (fs_inv_virtual (pc := 6) (n := 10550335) C (Nat.le_of_ble_eq_true rfl) (Nat.le_of_ble_eq_true rfl) (fs_lk_virtual (idx := 339) (y := ⟨"BoardMachine$Integers$IntegerUnit", "wanted", "(I)J"⟩) (bytes := prog_69_method_5_code) (maxL := 2) (rt := (Option.some Jvm.ClassFile.FieldType.long)) (d := 1) C (Nat.le_of_ble_eq_true rfl) (Nat.le_of_ble_eq_true rfl) (by decide +kernel) (kw K hw q3503) (kw K hw q358) (kw K hw q3501) (Or.inl (kw K hw q3500)) ⟨by decide, by decide⟩ rfl (Nat.le_of_ble_eq_true rfl) (Nat.le_of_ble_eq_true rfl) (fs_one (⟨_, rfl, kw K hw q3502⟩))) fs_con_mono o0) ?_
  refine fs_c1 (fs_getf (pc := 11) (n := 885305646) (idx := 12) (ref := "BoardMachine$Processor") (O := "BoardMachine$Processor") (name := "integers") (desc := "LBoardMachine$Integers$IntegerUnit;") C (by decide +kernel) (Or.inl (kw K hw q2078)) (fun _ h => h) (Nat.le_of_ble_eq_true rfl) (Nat.le_of_ble_eq_true rfl) (fs_one (⟨_, ff_75_211 s0 H0 oa D⟩))) ?_
  refine fs_c1 (fs_inv_virtual (pc := 15) (n := 10550335) C (Nat.le_of_ble_eq_true rfl) (Nat.le_of_ble_eq_true rfl) (fs_lk_virtual (idx := 339) (y := ⟨"BoardMachine$Integers$IntegerUnit", "wanted", "(I)J"⟩) (bytes := prog_69_method_5_code) (maxL := 2) (rt := (Option.some Jvm.ClassFile.FieldType.long)) (d := 1) C (Nat.le_of_ble_eq_true rfl) (Nat.le_of_ble_eq_true rfl) (by decide +kernel) (kw K hw q3503) (kw K hw q358) (kw K hw q3501) (Or.inl (kw K hw q3500)) ⟨by decide, by decide⟩ rfl (Nat.le_of_ble_eq_true rfl) (Nat.le_of_ble_eq_true rfl) (fs_one (⟨_, rfl, kw K hw q3502⟩))) fs_con_mono o0) ?_
  refine fs_c1 (fs_inv_virtual (pc := 19) (n := 85011531) C (Nat.le_of_ble_eq_true rfl) (Nat.le_of_ble_eq_true rfl) (fs_lk_virtual (idx := 342) (y := ⟨"BoardMachine$Processor", "locate", "(JII)Z"⟩) (bytes := prog_86_method_12_code) (maxL := 9) (rt := (Option.some Jvm.ClassFile.FieldType.boolean)) (d := 10) C (Nat.le_of_ble_eq_true rfl) (Nat.le_of_ble_eq_true rfl) (by decide +kernel) (kw K hw q3508) (kw K hw q357) (kw K hw q3507) (Or.inl (kw K hw q3505)) ⟨by decide, by decide⟩ rfl (Nat.le_of_ble_eq_true rfl) (Nat.le_of_ble_eq_true rfl) (fs_one (⟨_, rfl, kw K hw qs65⟩))) fs_con_mono o1) ?_
  refine fs_c1 (fs_getf (pc := 28) (n := 885305646) (idx := 12) (ref := "BoardMachine$Processor") (O := "BoardMachine$Processor") (name := "integers") (desc := "LBoardMachine$Integers$IntegerUnit;") C (by decide +kernel) (Or.inl (kw K hw q2078)) (fun _ h => h) (Nat.le_of_ble_eq_true rfl) (Nat.le_of_ble_eq_true rfl) (fs_one (⟨_, ff_75_211 s0 H0 oa D⟩))) ?_
  refine fs_c1 (fs_getf (pc := 33) (n := 910471470) (idx := 34) (ref := "BoardMachine$Processor") (O := "BoardMachine$Processor") (name := "data") (desc := "LBoardMachine$Found;") C (by decide +kernel) (Or.inl (kw K hw q2088)) (fun _ h => h) (Nat.le_of_ble_eq_true rfl) (Nat.le_of_ble_eq_true rfl) (fs_one (⟨_, ff_75_217 s0 H0 oa D⟩))) ?_
  refine fs_c1 (fs_getf (pc := 37) (n := 881111342) (idx := 42) (ref := "BoardMachine$Processor") (O := "BoardMachine$Processor") (name := "board") (desc := "LBoardMachine$Board;") C (by decide +kernel) (Or.inl (kw K hw q2077)) (fun _ h => h) (Nat.le_of_ble_eq_true rfl) (Nat.le_of_ble_eq_true rfl) (fs_one (⟨_, ff_75_210 s0 H0 oa D⟩))) ?_
  refine fs_c1 (fs_inv_virtual (pc := 40) (n := 144745513) C (Nat.le_of_ble_eq_true rfl) (Nat.le_of_ble_eq_true rfl) (fs_lk_virtual (idx := 346) (y := ⟨"BoardMachine$Found", "load", "(LBoardMachine$Board;)J"⟩) (bytes := prog_42_method_2_code) (maxL := 5) (rt := (Option.some Jvm.ClassFile.FieldType.long)) (d := 7) C (Nat.le_of_ble_eq_true rfl) (Nat.le_of_ble_eq_true rfl) (by decide +kernel) (kw K hw q3526) (kw K hw q384) (kw K hw q3524) (Or.inl (kw K hw q3523)) ⟨by decide, by decide⟩ rfl (Nat.le_of_ble_eq_true rfl) (Nat.le_of_ble_eq_true rfl) (fs_one (⟨_, rfl, kw K hw q3525⟩))) fs_con_mono o2) ?_
  refine fs_c1 (fs_inv_virtual (pc := 43) (n := 215022655) C (Nat.le_of_ble_eq_true rfl) (Nat.le_of_ble_eq_true rfl) (fs_lk_virtual (idx := 349) (y := ⟨"BoardMachine$Integers$IntegerUnit", "finish", "(ZJ)I"⟩) (bytes := prog_69_method_6_code) (maxL := 5) (rt := (Option.some Jvm.ClassFile.FieldType.int)) (d := 3) C (Nat.le_of_ble_eq_true rfl) (Nat.le_of_ble_eq_true rfl) (by decide +kernel) (kw K hw q3645) (kw K hw q358) (kw K hw q3643) (Or.inl (kw K hw q3642)) ⟨by decide, by decide⟩ rfl (Nat.le_of_ble_eq_true rfl) (Nat.le_of_ble_eq_true rfl) (fs_one (⟨_, rfl, kw K hw q3644⟩))) fs_con_mono o3) ?_
  exact fs_c0
