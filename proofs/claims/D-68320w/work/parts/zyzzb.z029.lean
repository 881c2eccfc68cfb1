/-! contracts of methods, printed by gen/snd.py -/
set_option maxRecDepth 100000
set_option maxHeartbeats 4000000
theorem hX46_fetch (n : Nat) : fe_H (sX46_fetch (FX46_half n) FX11_load FX11_pageOf (FX34_expand n) FX46_keep) cX46_fetch [0, 67, 127, 182, 209, 261, 265] fe_ki [] 162 (fun _ => dX46_fetch (FX46_fetch_0 n) (FX46_fetch_67 n) (FX46_fetch_127 n) (FX46_fetch_182 n) (FX46_fetch_209 n) (FX46_fetch_261 n) (FX46_fetch_265 n)) := by
  intro j pc L st M r hc h
  rcases fe_mem_c hc with rfl | hc
  · obtain ⟨w0, m0, h⟩ := fe_lR_d h
    obtain ⟨rfl, hz⟩ := fe_t0_d h
    exact ⟨[(0, .ref w0)], (fe_cs m0 fe_nl), Or.inr ((bX46_fetch_0 (FX46_half n) FX11_load FX11_pageOf (FX34_expand n) FX46_keep (FX46_fetch_0 n ) (FX46_fetch_67 n ) (FX46_fetch_127 n ) (FX46_fetch_182 n ) (FX46_fetch_209 n ) (FX46_fetch_261 n ) (FX46_fetch_265 n ) w0 M).symm.trans hz)⟩
  rcases fe_mem_c hc with rfl | hc
  · obtain ⟨w0, m0, h⟩ := fe_lR_d h
    obtain ⟨w1, m1, h⟩ := fe_lL_d h
    obtain ⟨w3, m3, h⟩ := fe_lR_d h
    obtain ⟨rfl, hz⟩ := fe_t0_d h
    exact ⟨[(0, .ref w0), (1, .long w1), (3, .ref w3)], (fe_cs m0 (fe_cs m1 (fe_cs m3 fe_nl))), Or.inr ((bX46_fetch_67 (FX46_half n) FX11_load FX11_pageOf (FX34_expand n) FX46_keep (FX46_fetch_0 n ) (FX46_fetch_67 n ) (FX46_fetch_127 n ) (FX46_fetch_182 n ) (FX46_fetch_209 n ) (FX46_fetch_261 n ) (FX46_fetch_265 n ) w0 w1 w3 M).symm.trans hz)⟩
  rcases fe_mem_c hc with rfl | hc
  · obtain ⟨w0, m0, h⟩ := fe_lR_d h
    obtain ⟨w1, m1, h⟩ := fe_lL_d h
    obtain ⟨w3, m3, h⟩ := fe_lR_d h
    obtain ⟨rfl, hz⟩ := fe_t0_d h
    exact ⟨[(0, .ref w0), (1, .long w1), (3, .ref w3)], (fe_cs m0 (fe_cs m1 (fe_cs m3 fe_nl))), Or.inr ((bX46_fetch_127 (FX46_half n) FX11_load FX11_pageOf (FX34_expand n) FX46_keep (FX46_fetch_0 n ) (FX46_fetch_67 n ) (FX46_fetch_127 n ) (FX46_fetch_182 n ) (FX46_fetch_209 n ) (FX46_fetch_261 n ) (FX46_fetch_265 n ) w0 w1 w3 M).symm.trans hz)⟩
  rcases fe_mem_c hc with rfl | hc
  · obtain ⟨w0, m0, h⟩ := fe_lR_d h
    obtain ⟨w1, m1, h⟩ := fe_lL_d h
    obtain ⟨w3, m3, h⟩ := fe_lR_d h
    obtain ⟨w4, m4, h⟩ := fe_lL_d h
    obtain ⟨rfl, hz⟩ := fe_t0_d h
    exact ⟨[(0, .ref w0), (1, .long w1), (3, .ref w3), (4, .long w4)], (fe_cs m0 (fe_cs m1 (fe_cs m3 (fe_cs m4 fe_nl)))), Or.inr ((bX46_fetch_182 (FX46_half n) FX11_load FX11_pageOf (FX34_expand n) FX46_keep (FX46_fetch_0 n ) (FX46_fetch_67 n ) (FX46_fetch_127 n ) (FX46_fetch_182 n ) (FX46_fetch_209 n ) (FX46_fetch_261 n ) (FX46_fetch_265 n ) w0 w1 w3 w4 M).symm.trans hz)⟩
  rcases fe_mem_c hc with rfl | hc
  · obtain ⟨w0, m0, h⟩ := fe_lR_d h
    obtain ⟨w1, m1, h⟩ := fe_lL_d h
    obtain ⟨w3, m3, h⟩ := fe_lR_d h
    obtain ⟨w4, m4, h⟩ := fe_lL_d h
    obtain ⟨s0, t0, rfl, g0⟩ := fe_tI_d h
    obtain ⟨rfl, hz⟩ := fe_t0_d g0
    exact ⟨[(0, .ref w0), (1, .long w1), (3, .ref w3), (4, .long w4)], (fe_cs m0 (fe_cs m1 (fe_cs m3 (fe_cs m4 fe_nl)))), Or.inr ((bX46_fetch_209 (FX46_half n) FX11_load FX11_pageOf (FX34_expand n) FX46_keep (FX46_fetch_0 n ) (FX46_fetch_67 n ) (FX46_fetch_127 n ) (FX46_fetch_182 n ) (FX46_fetch_209 n ) (FX46_fetch_261 n ) (FX46_fetch_265 n ) w0 w1 w3 w4 s0 M).symm.trans hz)⟩
  rcases fe_mem_c hc with rfl | hc
  · obtain ⟨w0, m0, h⟩ := fe_lR_d h
    obtain ⟨w3, m3, h⟩ := fe_lR_d h
    obtain ⟨s2, t2, rfl, g2⟩ := fe_tI_d h
    obtain ⟨s1, t1, rfl, g1⟩ := fe_tI_d g2
    obtain ⟨s0, t0, rfl, g0⟩ := fe_tR_d g1
    obtain ⟨rfl, hz⟩ := fe_t0_d g0
    exact ⟨[(0, .ref w0), (3, .ref w3)], (fe_cs m0 (fe_cs m3 fe_nl)), Or.inr ((bX46_fetch_261 (FX46_half n) FX11_load FX11_pageOf (FX34_expand n) FX46_keep (FX46_fetch_0 n ) (FX46_fetch_67 n ) (FX46_fetch_127 n ) (FX46_fetch_182 n ) (FX46_fetch_209 n ) (FX46_fetch_261 n ) (FX46_fetch_265 n ) w0 w3 s0 s1 s2 M).symm.trans hz)⟩
  rcases fe_mem_c hc with rfl | hc
  · obtain ⟨w0, m0, h⟩ := fe_lR_d h
    obtain ⟨w3, m3, h⟩ := fe_lR_d h
    obtain ⟨rfl, hz⟩ := fe_t0_d h
    exact ⟨[(0, .ref w0), (3, .ref w3)], (fe_cs m0 (fe_cs m3 fe_nl)), Or.inr ((bX46_fetch_265 (FX46_half n) FX11_load FX11_pageOf (FX34_expand n) FX46_keep (FX46_fetch_0 n ) (FX46_fetch_67 n ) (FX46_fetch_127 n ) (FX46_fetch_182 n ) (FX46_fetch_209 n ) (FX46_fetch_261 n ) (FX46_fetch_265 n ) w0 w3 M).symm.trans hz)⟩
  exact fe_mem_0 hc
theorem vX46_fetch (n : Nat) : fe_SB (sX46_fetch (FX46_half n) FX11_load FX11_pageOf (FX34_expand n) FX46_keep) := by
  refine ⟨?_, ?_, ?_, ?_⟩
  · intro i As M r h
    rcases fe_bc h with h | h
    · obtain ⟨v0, t0, rfl, g0⟩ := fe_tR_d h
      obtain ⟨v1, t1, rfl, g1⟩ := fe_tR_d g0
      obtain ⟨v2, t2, rfl, g2⟩ := fe_tL_d g1
      obtain ⟨v3, t3, rfl, g3⟩ := fe_tI_d g2
      obtain ⟨v4, t4, rfl, g4⟩ := fe_tI_d g3
      obtain ⟨v5, t5, rfl, g5⟩ := fe_tI_d g4
      obtain ⟨rfl, hz⟩ := fe_t0_d g5
      exact mX46_keep v0 v1 v2 v3 v4 v5 M r hz
    exact fe_no h
  · intro i As M r h
    rcases fe_bc h with h | h
    · obtain ⟨v0, t0, rfl, g0⟩ := fe_tL_d h
      obtain ⟨rfl, hz⟩ := fe_t0_d g0
      exact mX11_pageOf v0 M r hz
    rcases fe_bc h with h | h
    · obtain ⟨v0, t0, rfl, g0⟩ := fe_tR_d h
      obtain ⟨v1, t1, rfl, g1⟩ := fe_tI_d g0
      obtain ⟨rfl, hz⟩ := fe_t0_d g1
      exact mX34_expand n v0 v1 M r hz
    exact fe_no h
  · intro i As M r h
    rcases fe_bc h with h | h
    · obtain ⟨v0, t0, rfl, g0⟩ := fe_tR_d h
      obtain ⟨v1, t1, rfl, g1⟩ := fe_tI_d g0
      obtain ⟨rfl, hz⟩ := fe_t0_d g1
      exact mX46_half n v0 v1 M r hz
    rcases fe_bc h with h | h
    · obtain ⟨v0, t0, rfl, g0⟩ := fe_tR_d h
      obtain ⟨v1, t1, rfl, g1⟩ := fe_tL_d g0
      obtain ⟨v2, t2, rfl, g2⟩ := fe_tI_d g1
      obtain ⟨rfl, hz⟩ := fe_t0_d g2
      exact mX11_load v0 v1 v2 M r hz
    exact fe_no h
  · intro i As M r h
    exact fe_no h
theorem eX46_fetch (g0 : Nat → FM → Option (Int32 × FM)) (g67 : Nat → Int64 → Nat → FM → Option (Int32 × FM)) (g127 : Nat → Int64 → Nat → FM → Option (Int32 × FM)) (g182 : Nat → Int64 → Nat → Int64 → FM → Option (Int32 × FM)) (g209 : Nat → Int64 → Nat → Int64 → Int32 → FM → Option (Int32 × FM)) (g261 : Nat → Nat → Nat → Int32 → Int32 → FM → Option (Int32 × FM)) (g265 : Nat → Nat → FM → Option (Int32 × FM)) (a0 : Nat) (M : FM) : dX46_fetch g0 g67 g127 g182 g209 g261 g265 0 [(0, .ref a0)] [] M = g0 a0 M := by rfl
theorem mX46_fetch (n : Nat) (a0 : Nat) (M : FM) (r : Int32 × FM) (h : FX46_fetch n a0 M = some r) : fm_nx M ≤ fm_nx r.2 ∧ fm_ns M ≤ fm_ns r.2 :=
  fe_mono (L0 := [(0, .ref a0)]) (vX46_fetch n) (by decide +kernel) (hX46_fetch n) (fe_ki_k r) 0 rfl ((eX46_fetch (FX46_fetch_0 n ) (FX46_fetch_67 n ) (FX46_fetch_127 n ) (FX46_fetch_182 n ) (FX46_fetch_209 n ) (FX46_fetch_261 n ) (FX46_fetch_265 n ) a0 M).trans h)
theorem zX46_fetch {s0 : State} {H0 : Heap} {oa : Nat → Nat} {D : va_G} (K : fk s0 H0 oa D) (l : Launch) (n : Nat) (a0 : Nat) (M : FM) (r : Int32 × FM) (h : FX46_fetch n a0 M = some r) : fs_Con (fk_E s0 H0 oa D) l 11 ⟨"BoardMachine$Processor", "fetch", "()Z"⟩ prog_86_method_15_code 7 (Option.some Jvm.ClassFile.FieldType.boolean) [.ref a0] M (some (.int r.1)) r.2 := by
  have o0 : fs_OS (sX46_fetch (FX46_half n) FX11_load FX11_pageOf (FX34_expand n) FX46_keep) 0 2 (fs_Con (fk_E s0 H0 oa D) l 10 ⟨"BoardMachine$Processor", "half", "(I)J"⟩ prog_86_method_13_code 6 (Option.some Jvm.ClassFile.FieldType.long)) := by
    intro As M r h
    obtain ⟨v0, t0, rfl, g0⟩ := fe_tR_d h
    obtain ⟨v1, t1, rfl, g1⟩ := fe_tI_d g0
    obtain ⟨rfl, hz⟩ := fe_t0_d g1
    exact zX46_half K l n v0 v1 M r hz
  have o1 : fs_OS (sX46_fetch (FX46_half n) FX11_load FX11_pageOf (FX34_expand n) FX46_keep) 1 2 (fs_Con (fk_E s0 H0 oa D) l 3 ⟨"BoardMachine$Memories$Ram", "load", "(JI)J"⟩ prog_82_method_6_code 10 (Option.some Jvm.ClassFile.FieldType.long)) := by
    intro As M r h
    obtain ⟨v0, t0, rfl, g0⟩ := fe_tR_d h
    obtain ⟨v1, t1, rfl, g1⟩ := fe_tL_d g0
    obtain ⟨v2, t2, rfl, g2⟩ := fe_tI_d g1
    obtain ⟨rfl, hz⟩ := fe_t0_d g2
    exact zX11_load K l v0 v1 v2 M r hz
  have o2 : fs_OS (sX46_fetch (FX46_half n) FX11_load FX11_pageOf (FX34_expand n) FX46_keep) 2 1 (fs_Con (fk_E s0 H0 oa D) l 1 ⟨"BoardMachine$Memories$Ram", "pageOf", "(J)I"⟩ prog_82_method_3_code 2 (Option.some Jvm.ClassFile.FieldType.int)) := by
    intro As M r h
    obtain ⟨v0, t0, rfl, g0⟩ := fe_tL_d h
    obtain ⟨rfl, hz⟩ := fe_t0_d g0
    exact zX11_pageOf K l v0 M r hz
  have o3 : fs_OS (sX46_fetch (FX46_half n) FX11_load FX11_pageOf (FX34_expand n) FX46_keep) 3 1 (fs_Con (fk_E s0 H0 oa D) l 4 ⟨"BoardMachine$Halves$ShortUnit", "expand", "(I)I"⟩ prog_51_method_3_code 4 (Option.some Jvm.ClassFile.FieldType.int)) := by
    intro As M r h
    obtain ⟨v0, t0, rfl, g0⟩ := fe_tR_d h
    obtain ⟨v1, t1, rfl, g1⟩ := fe_tI_d g0
    obtain ⟨rfl, hz⟩ := fe_t0_d g1
    exact zX34_expand K l n v0 v1 M r hz
  have o4 : fs_OS (sX46_fetch (FX46_half n) FX11_load FX11_pageOf (FX34_expand n) FX46_keep) 4 0 (fs_Con (fk_E s0 H0 oa D) l 2 ⟨"BoardMachine$Processor", "keep", "(LBoardMachine$Kept;JIII)V"⟩ prog_86_method_14_code 7 (Option.none : Option Jvm.ClassFile.FieldType)) := by
    intro As M r h
    obtain ⟨v0, t0, rfl, g0⟩ := fe_tR_d h
    obtain ⟨v1, t1, rfl, g1⟩ := fe_tR_d g0
    obtain ⟨v2, t2, rfl, g2⟩ := fe_tL_d g1
    obtain ⟨v3, t3, rfl, g3⟩ := fe_tI_d g2
    obtain ⟨v4, t4, rfl, g4⟩ := fe_tI_d g3
    obtain ⟨v5, t5, rfl, g5⟩ := fe_tI_d g4
    obtain ⟨rfl, hz⟩ := fe_t0_d g5
    exact zX46_keep K l v0 v1 v2 v3 v4 v5 M r hz
  refine fs_method (own := "BoardMachine$Processor") rfl (by decide) K.2.1 (by rw [fe_slen]; exact (Nat.le_of_ble_eq_true rfl)) (mX46_fetch n a0 M r h) (hX46_fetch n) 0 rfl (L0 := [(0, .ref a0)]) (fun E => fe_args_e E [.ref a0] 0) ((eX46_fetch (FX46_fetch_0 n ) (FX46_fetch_67 n ) (FX46_fetch_127 n ) (FX46_fetch_182 n ) (FX46_fetch_209 n ) (FX46_fetch_261 n ) (FX46_fetch_265 n ) a0 M).trans h) (fe_ki_k r) (fun H hR => fs_nr_o (by decide) (by decide)) ?_
  intro p e s m args below meth c Q C hnm
  have hw : s0.WarmedH s.vm := C.2.2.2.2.1
  refine fe_all C fk_hwr cX46_fetch [2, 15, 29, 36, 45, 49, 52, 55, 59, 69, 73, 76, 81, 99, 104, 110, 118, 124, 129, 132, 136, 145, 159, 165, 174, 183, 190, 193, 198, 206, 210, 213, 219, 237, 242, 248, 262, 267, 270, 275, 278] (by decide +kernel) (fe_fil (cps := [(2, 5, .invokevirtual 10562635), (15, 18, .getfield 906277166), (29, 32, .getfield 755241223), (36, 39, .getfield 759435525), (45, 48, .getfield 763629829), (49, 52, .getfield 881111342), (52, 55, .getfield 75542574), (55, 58, .getfield 855937318), (59, 62, .invokestatic 133), (69, 72, .putfield 755241223), (73, 76, .getfield 881111342), (76, 79, .getfield 75542574), (81, 84, .invokevirtual 81863753), (99, 102, .getfield 902082862), (104, 107, .invokevirtual 210817076), (110, 113, .invokevirtual 293678155), (118, 121, .putfield 772018436), (124, 127, .putfield 776212740), (129, 132, .getfield 772018436), (132, 135, .putfield 927248684), (136, 139, .getfield 927248684), (145, 148, .invokevirtual 10562635), (159, 162, .putfield 755241223), (165, 168, .getfield 755241223), (174, 177, .jsr_w (2)), (183, 186, .getfield 755241223), (190, 193, .getfield 881111342), (193, 196, .getfield 75542574), (198, 201, .invokevirtual 81863753), (206, 209, .getfield 776212740), (210, 213, .getfield 881111342), (213, 216, .getfield 75542574), (219, 222, .invokevirtual 81863753), (237, 240, .invokevirtual 293678155), (242, 245, .getfield 755241223), (248, 251, .jsr_w (2)), (262, 265, .putfield 755241223), (267, 270, .getfield 767824132), (270, 273, .putfield 918860076), (275, 278, .getfield 776212740), (278, 281, .putfield 923054380)]) (by decide +kernel) ?_)
  refine fs_c1 (fs_inv_virtual (pc := 2) (n := 10562635) C (Nat.le_of_ble_eq_true rfl) (Nat.le_of_ble_eq_true rfl) (fs_lk_virtual (idx := 321) (y := ⟨"BoardMachine$Processor", "half", "(I)J"⟩) (bytes := prog_86_method_13_code) (maxL := 6) (rt := (Option.some Jvm.ClassFile.FieldType.long)) (d := 10) C (Nat.le_of_ble_eq_true rfl) (Nat.le_of_ble_eq_true rfl) (by decide +kernel) (kw K hw q2976) (kw K hw q357) (kw K hw q2975) (Or.inl (kw K hw q2973)) ⟨by decide, by decide⟩ rfl (Nat.le_of_ble_eq_true rfl) (Nat.le_of_ble_eq_true rfl) (fs_one (⟨_, rfl, kw K hw qs41⟩))) fs_con_mono o0) ?_
  refine fs_c1 (fs_getf (pc := 15) (n := 906277166) (idx := 27) (ref := "BoardMachine$Processor") (O := "BoardMachine$Processor") (name := "kept") (desc := "[LBoardMachine$Kept;") C (by decide +kernel) (Or.inl (kw K hw q2087)) (fun _ h => h) (Nat.le_of_ble_eq_true rfl) (Nat.le_of_ble_eq_true rfl) (fs_one (⟨_, ff_75_216 s0 H0 oa D⟩))) ?_
  refine fs_c1 (fs_getf (pc := 29) (n := 755241223) (idx := 301) (ref := "BoardMachine$Kept") (O := "BoardMachine$Kept") (name := "is") (desc := "Z") C (by decide +kernel) (Or.inr ⟨_, kF K hw q2057⟩) (fun _ h => h) (Nat.le_of_ble_eq_true rfl) (Nat.le_of_ble_eq_true rfl) (fs_one (⟨_, ff_65_180 s0 H0 oa D⟩))) ?_
  refine fs_c1 (fs_getf (pc := 36) (n := 759435525) (idx := 304) (ref := "BoardMachine$Kept") (O := "BoardMachine$Kept") (name := "at") (desc := "J") C (by decide +kernel) (Or.inr ⟨_, kF K hw q2058⟩) (fun _ h => h) (Nat.le_of_ble_eq_true rfl) (Nat.le_of_ble_eq_true rfl) (fs_one (⟨_, ff_65_181 s0 H0 oa D⟩))) ?_
  refine fs_c1 (fs_getf (pc := 45) (n := 763629829) (idx := 314) (ref := "BoardMachine$Kept") (O := "BoardMachine$Kept") (name := "writes") (desc := "J") C (by decide +kernel) (Or.inr ⟨_, kF K hw q2059⟩) (fun _ h => h) (Nat.le_of_ble_eq_true rfl) (Nat.le_of_ble_eq_true rfl) (fs_one (⟨_, ff_65_182 s0 H0 oa D⟩))) ?_
  refine fs_c1 (fs_getf (pc := 49) (n := 881111342) (idx := 42) (ref := "BoardMachine$Processor") (O := "BoardMachine$Processor") (name := "board") (desc := "LBoardMachine$Board;") C (by decide +kernel) (Or.inl (kw K hw q2077)) (fun _ h => h) (Nat.le_of_ble_eq_true rfl) (Nat.le_of_ble_eq_true rfl) (fs_one (⟨_, ff_75_210 s0 H0 oa D⟩))) ?_
  refine fs_c1 (fs_getf (pc := 52) (n := 75542574) (idx := 63) (ref := "BoardMachine$Board") (O := "BoardMachine$Board") (name := "ram") (desc := "LBoardMachine$Memories$Ram;") C (by decide +kernel) (Or.inr ⟨_, kF K hw q1037⟩) (fun _ h => h) (Nat.le_of_ble_eq_true rfl) (Nat.le_of_ble_eq_true rfl) (fs_one (⟨_, ff_11_18 s0 H0 oa D⟩))) ?_
  refine fs_c1 (fs_getf (pc := 55) (n := 855937318) (idx := 307) (ref := "BoardMachine$Memories$Ram") (O := "BoardMachine$Memories$Ram") (name := "writes") (desc := "[J") C (by decide +kernel) (Or.inr ⟨_, kF K hw q694⟩) (fun _ h => h) (Nat.le_of_ble_eq_true rfl) (Nat.le_of_ble_eq_true rfl) (fs_one (⟨_, ff_73_204 s0 H0 oa D⟩))) ?_
  refine fs_c1 (fs_inv_static (pc := 59) (n := 133) C (fs_lk_static (idx := 310) (y := ⟨"BoardMachine$Memories$Ram", "pageOf", "(J)I"⟩) (bytes := prog_82_method_3_code) (maxL := 2) (rt := (Option.some Jvm.ClassFile.FieldType.int)) (d := 1) C (by decide +kernel) (kw K hw q2391) (kw K hw q321) (kw K hw q2390) (Or.inr ⟨_, kM K hw q3099⟩) ⟨by decide, by decide⟩ rfl (Nat.le_of_ble_eq_true rfl) (Nat.le_of_ble_eq_true rfl)) fs_con_mono o2) ?_
  refine fs_c1 (fs_putf (pc := 69) (n := 755241223) (idx := 301) (ref := "BoardMachine$Kept") (O := "BoardMachine$Kept") (name := "is") (desc := "Z") (fin := false) (ty := .boolean) C (by decide +kernel) (Or.inl ⟨rfl, Or.inr ⟨_, kF K hw q2057⟩⟩) (fun _ h => h) (Nat.le_of_ble_eq_true rfl) (Nat.le_of_ble_eq_true rfl) (Nat.le_of_ble_eq_true rfl) rfl rfl (by decide) (fs_one (⟨rfl, ff_65_180 s0 H0 oa D⟩))) ?_
  refine fs_c1 (fs_getf (pc := 73) (n := 881111342) (idx := 42) (ref := "BoardMachine$Processor") (O := "BoardMachine$Processor") (name := "board") (desc := "LBoardMachine$Board;") C (by decide +kernel) (Or.inl (kw K hw q2077)) (fun _ h => h) (Nat.le_of_ble_eq_true rfl) (Nat.le_of_ble_eq_true rfl) (fs_one (⟨_, ff_75_210 s0 H0 oa D⟩))) ?_
  refine fs_c1 (fs_getf (pc := 76) (n := 75542574) (idx := 63) (ref := "BoardMachine$Board") (O := "BoardMachine$Board") (name := "ram") (desc := "LBoardMachine$Memories$Ram;") C (by decide +kernel) (Or.inr ⟨_, kF K hw q1037⟩) (fun _ h => h) (Nat.le_of_ble_eq_true rfl) (Nat.le_of_ble_eq_true rfl) (fs_one (⟨_, ff_11_18 s0 H0 oa D⟩))) ?_
  refine fs_c1 (fs_inv_virtual (pc := 81) (n := 81863753) C (Nat.le_of_ble_eq_true rfl) (Nat.le_of_ble_eq_true rfl) (fs_lk_virtual (idx := 325) (y := ⟨"BoardMachine$Memories$Ram", "load", "(JI)J"⟩) (bytes := prog_82_method_6_code) (maxL := 10) (rt := (Option.some Jvm.ClassFile.FieldType.long)) (d := 3) C (Nat.le_of_ble_eq_true rfl) (Nat.le_of_ble_eq_true rfl) (by decide +kernel) (kw K hw q3062) (kw K hw q321) (kw K hw q3060) (Or.inl (kw K hw q3100)) ⟨by decide, by decide⟩ rfl (Nat.le_of_ble_eq_true rfl) (Nat.le_of_ble_eq_true rfl) (fs_one (⟨_, rfl, kw K hw q3061⟩))) fs_con_mono o1) ?_
  refine fs_c1 (fs_getf (pc := 99) (n := 902082862) (idx := 46) (ref := "BoardMachine$Processor") (O := "BoardMachine$Processor") (name := "halves") (desc := "LBoardMachine$Halves$ShortUnit;") C (by decide +kernel) (Or.inl (kw K hw q2086)) (fun _ h => h) (Nat.le_of_ble_eq_true rfl) (Nat.le_of_ble_eq_true rfl) (fs_one (⟨_, ff_75_215 s0 H0 oa D⟩))) ?_
  refine fs_c1 (fs_inv_virtual (pc := 104) (n := 210817076) C (Nat.le_of_ble_eq_true rfl) (Nat.le_of_ble_eq_true rfl) (fs_lk_virtual (idx := 329) (y := ⟨"BoardMachine$Halves$ShortUnit", "expand", "(I)I"⟩) (bytes := prog_51_method_3_code) (maxL := 4) (rt := (Option.some Jvm.ClassFile.FieldType.int)) (d := 4) C (Nat.le_of_ble_eq_true rfl) (Nat.le_of_ble_eq_true rfl) (by decide +kernel) (kw K hw q3104) (kw K hw q345) (kw K hw q3102) (Or.inl (kw K hw q3101)) ⟨by decide, by decide⟩ rfl (Nat.le_of_ble_eq_true rfl) (Nat.le_of_ble_eq_true rfl) (fs_one (⟨_, rfl, kw K hw q3103⟩))) fs_con_mono o3) ?_
  refine fs_c1 (fs_inv_virtual (pc := 110) (n := 293678155) C (Nat.le_of_ble_eq_true rfl) (Nat.le_of_ble_eq_true rfl) (fs_lk_virtual (idx := 334) (y := ⟨"BoardMachine$Processor", "keep", "(LBoardMachine$Kept;JIII)V"⟩) (bytes := prog_86_method_14_code) (maxL := 7) (rt := (Option.none : Option Jvm.ClassFile.FieldType)) (d := 2) C (Nat.le_of_ble_eq_true rfl) (Nat.le_of_ble_eq_true rfl) (by decide +kernel) (kw K hw q3215) (kw K hw q357) (kw K hw q3214) (Or.inl (kw K hw q3212)) ⟨by decide, by decide⟩ rfl (Nat.le_of_ble_eq_true rfl) (Nat.le_of_ble_eq_true rfl) (fs_one (⟨_, rfl, kw K hw qs50⟩))) fs_con_mono o4) ?_
  refine fs_c1 (fs_putf (pc := 118) (n := 772018436) (idx := 320) (ref := "BoardMachine$Kept") (O := "BoardMachine$Kept") (name := "length") (desc := "I") (fin := false) (ty := .int) C (by decide +kernel) (Or.inl ⟨rfl, Or.inr ⟨_, kF K hw q2061⟩⟩) (fun _ h => h) (Nat.le_of_ble_eq_true rfl) (Nat.le_of_ble_eq_true rfl) (Nat.le_of_ble_eq_true rfl) rfl rfl (by decide) (fs_one (⟨rfl, ff_65_184 s0 H0 oa D⟩))) ?_
  refine fs_c1 (fs_putf (pc := 124) (n := 776212740) (idx := 319) (ref := "BoardMachine$Kept") (O := "BoardMachine$Kept") (name := "raw") (desc := "I") (fin := false) (ty := .int) C (by decide +kernel) (Or.inl ⟨rfl, Or.inr ⟨_, kF K hw q2062⟩⟩) (fun _ h => h) (Nat.le_of_ble_eq_true rfl) (Nat.le_of_ble_eq_true rfl) (Nat.le_of_ble_eq_true rfl) rfl rfl (by decide) (fs_one (⟨rfl, ff_65_185 s0 H0 oa D⟩))) ?_
  refine fs_c1 (fs_getf (pc := 129) (n := 772018436) (idx := 320) (ref := "BoardMachine$Kept") (O := "BoardMachine$Kept") (name := "length") (desc := "I") C (by decide +kernel) (Or.inr ⟨_, kF K hw q2061⟩) (fun _ h => h) (Nat.le_of_ble_eq_true rfl) (Nat.le_of_ble_eq_true rfl) (fs_one (⟨_, ff_65_184 s0 H0 oa D⟩))) ?_
  refine fs_c1 (fs_putf (pc := 132) (n := 927248684) (idx := 241) (ref := "BoardMachine$Processor") (O := "BoardMachine$Processor") (name := "length") (desc := "I") (fin := false) (ty := .int) C (by decide +kernel) (Or.inl ⟨rfl, Or.inl (kw K hw q2093)⟩) (fun _ h => h) (Nat.le_of_ble_eq_true rfl) (Nat.le_of_ble_eq_true rfl) (Nat.le_of_ble_eq_true rfl) rfl rfl (by decide) (fs_one (⟨rfl, ff_75_221 s0 H0 oa D⟩))) ?_
  refine fs_c1 (fs_getf (pc := 136) (n := 927248684) (idx := 241) (ref := "BoardMachine$Processor") (O := "BoardMachine$Processor") (name := "length") (desc := "I") C (by decide +kernel) (Or.inl (kw K hw q2093)) (fun _ h => h) (Nat.le_of_ble_eq_true rfl) (Nat.le_of_ble_eq_true rfl) (fs_one (⟨_, ff_75_221 s0 H0 oa D⟩))) ?_
  refine fs_c1 (fs_inv_virtual (pc := 145) (n := 10562635) C (Nat.le_of_ble_eq_true rfl) (Nat.le_of_ble_eq_true rfl) (fs_lk_virtual (idx := 321) (y := ⟨"BoardMachine$Processor", "half", "(I)J"⟩) (bytes := prog_86_method_13_code) (maxL := 6) (rt := (Option.some Jvm.ClassFile.FieldType.long)) (d := 10) C (Nat.le_of_ble_eq_true rfl) (Nat.le_of_ble_eq_true rfl) (by decide +kernel) (kw K hw q2976) (kw K hw q357) (kw K hw q2975) (Or.inl (kw K hw q2973)) ⟨by decide, by decide⟩ rfl (Nat.le_of_ble_eq_true rfl) (Nat.le_of_ble_eq_true rfl) (fs_one (⟨_, rfl, kw K hw qs41⟩))) fs_con_mono o0) ?_
  refine fs_c1 (fs_putf (pc := 159) (n := 755241223) (idx := 301) (ref := "BoardMachine$Kept") (O := "BoardMachine$Kept") (name := "is") (desc := "Z") (fin := false) (ty := .boolean) C (by decide +kernel) (Or.inl ⟨rfl, Or.inr ⟨_, kF K hw q2057⟩⟩) (fun _ h => h) (Nat.le_of_ble_eq_true rfl) (Nat.le_of_ble_eq_true rfl) (Nat.le_of_ble_eq_true rfl) rfl rfl (by decide) (fs_one (⟨rfl, ff_65_180 s0 H0 oa D⟩))) ?_
  refine fs_c1 (fs_getf (pc := 165) (n := 755241223) (idx := 301) (ref := "BoardMachine$Kept") (O := "BoardMachine$Kept") (name := "is") (desc := "Z") C (by decide +kernel) (Or.inr ⟨_, kF K hw q2057⟩) (fun _ h => h) (Nat.le_of_ble_eq_true rfl) (Nat.le_of_ble_eq_true rfl) (fs_one (⟨_, ff_65_180 s0 H0 oa D⟩))) ?_
  refine fs_c1 (fs_ldcl (pc := 174) (idx := 297) (v := 2) C (by decide +kernel) (kw K hw q3092)) ?_
  refine fs_c1 (fs_getf (pc := 183) (n := 755241223) (idx := 301) (ref := "BoardMachine$Kept") (O := "BoardMachine$Kept") (name := "is") (desc := "Z") C (by decide +kernel) (Or.inr ⟨_, kF K hw q2057⟩) (fun _ h => h) (Nat.le_of_ble_eq_true rfl) (Nat.le_of_ble_eq_true rfl) (fs_one (⟨_, ff_65_180 s0 H0 oa D⟩))) ?_
  refine fs_c1 (fs_getf (pc := 190) (n := 881111342) (idx := 42) (ref := "BoardMachine$Processor") (O := "BoardMachine$Processor") (name := "board") (desc := "LBoardMachine$Board;") C (by decide +kernel) (Or.inl (kw K hw q2077)) (fun _ h => h) (Nat.le_of_ble_eq_true rfl) (Nat.le_of_ble_eq_true rfl) (fs_one (⟨_, ff_75_210 s0 H0 oa D⟩))) ?_
  refine fs_c1 (fs_getf (pc := 193) (n := 75542574) (idx := 63) (ref := "BoardMachine$Board") (O := "BoardMachine$Board") (name := "ram") (desc := "LBoardMachine$Memories$Ram;") C (by decide +kernel) (Or.inr ⟨_, kF K hw q1037⟩) (fun _ h => h) (Nat.le_of_ble_eq_true rfl) (Nat.le_of_ble_eq_true rfl) (fs_one (⟨_, ff_11_18 s0 H0 oa D⟩))) ?_
  refine fs_c1 (fs_inv_virtual (pc := 198) (n := 81863753) C (Nat.le_of_ble_eq_true rfl) (Nat.le_of_ble_eq_true rfl) (fs_lk_virtual (idx := 325) (y := ⟨"BoardMachine$Memories$Ram", "load", "(JI)J"⟩) (bytes := prog_82_method_6_code) (maxL := 10) (rt := (Option.some Jvm.ClassFile.FieldType.long)) (d := 3) C (Nat.le_of_ble_eq_true rfl) (Nat.le_of_ble_eq_true rfl) (by decide +kernel) (kw K hw q3062) (kw K hw q321) (kw K hw q3060) (Or.inl (kw K hw q3100)) ⟨by decide, by decide⟩ rfl (Nat.le_of_ble_eq_true rfl) (Nat.le_of_ble_eq_true rfl) (fs_one (⟨_, rfl, kw K hw q3061⟩))) fs_con_mono o1) ?_
  refine fs_c1 (fs_getf (pc := 206) (n := 776212740) (idx := 319) (ref := "BoardMachine$Kept") (O := "BoardMachine$Kept") (name := "raw") (desc := "I") C (by decide +kernel) (Or.inr ⟨_, kF K hw q2062⟩) (fun _ h => h) (Nat.le_of_ble_eq_true rfl) (Nat.le_of_ble_eq_true rfl) (fs_one (⟨_, ff_65_185 s0 H0 oa D⟩))) ?_
  refine fs_c1 (fs_getf (pc := 210) (n := 881111342) (idx := 42) (ref := "BoardMachine$Processor") (O := "BoardMachine$Processor") (name := "board") (desc := "LBoardMachine$Board;") C (by decide +kernel) (Or.inl (kw K hw q2077)) (fun _ h => h) (Nat.le_of_ble_eq_true rfl) (Nat.le_of_ble_eq_true rfl) (fs_one (⟨_, ff_75_210 s0 H0 oa D⟩))) ?_
  refine fs_c1 (fs_getf (pc := 213) (n := 75542574) (idx := 63) (ref := "BoardMachine$Board") (O := "BoardMachine$Board") (name := "ram") (desc := "LBoardMachine$Memories$Ram;") C (by decide +kernel) (Or.inr ⟨_, kF K hw q1037⟩) (fun _ h => h) (Nat.le_of_ble_eq_true rfl) (Nat.le_of_ble_eq_true rfl) (fs_one (⟨_, ff_11_18 s0 H0 oa D⟩))) ?_
  refine fs_c1 (fs_inv_virtual (pc := 219) (n := 81863753) C (Nat.le_of_ble_eq_true rfl) (Nat.le_of_ble_eq_true rfl) (fs_lk_virtual (idx := 325) (y := ⟨"BoardMachine$Memories$Ram", "load", "(JI)J"⟩) (bytes := prog_82_method_6_code) (maxL := 10) (rt := (Option.some Jvm.ClassFile.FieldType.long)) (d := 3) C (Nat.le_of_ble_eq_true rfl) (Nat.le_of_ble_eq_true rfl) (by decide +kernel) (kw K hw q3062) (kw K hw q321) (kw K hw q3060) (Or.inl (kw K hw q3100)) ⟨by decide, by decide⟩ rfl (Nat.le_of_ble_eq_true rfl) (Nat.le_of_ble_eq_true rfl) (fs_one (⟨_, rfl, kw K hw q3061⟩))) fs_con_mono o1) ?_
  refine fs_c1 (fs_inv_virtual (pc := 237) (n := 293678155) C (Nat.le_of_ble_eq_true rfl) (Nat.le_of_ble_eq_true rfl) (fs_lk_virtual (idx := 334) (y := ⟨"BoardMachine$Processor", "keep", "(LBoardMachine$Kept;JIII)V"⟩) (bytes := prog_86_method_14_code) (maxL := 7) (rt := (Option.none : Option Jvm.ClassFile.FieldType)) (d := 2) C (Nat.le_of_ble_eq_true rfl) (Nat.le_of_ble_eq_true rfl) (by decide +kernel) (kw K hw q3215) (kw K hw q357) (kw K hw q3214) (Or.inl (kw K hw q3212)) ⟨by decide, by decide⟩ rfl (Nat.le_of_ble_eq_true rfl) (Nat.le_of_ble_eq_true rfl) (fs_one (⟨_, rfl, kw K hw qs50⟩))) fs_con_mono o4) ?_
  refine fs_c1 (fs_getf (pc := 242) (n := 755241223) (idx := 301) (ref := "BoardMachine$Kept") (O := "BoardMachine$Kept") (name := "is") (desc := "Z") C (by decide +kernel) (Or.inr ⟨_, kF K hw q2057⟩) (fun _ h => h) (Nat.le_of_ble_eq_true rfl) (Nat.le_of_ble_eq_true rfl) (fs_one (⟨_, ff_65_180 s0 H0 oa D⟩))) ?_
  refine fs_c1 (fs_ldcl (pc := 248) (idx := 297) (v := 2) C (by decide +kernel) (kw K hw q3092)) ?_
  refine fs_c1 (fs_putf (pc := 262) (n := 755241223) (idx := 301) (ref := "BoardMachine$Kept") (O := "BoardMachine$Kept") (name := "is") (desc := "Z") (fin := false) (ty := .boolean) C (by decide +kernel) (Or.inl ⟨rfl, Or.inr ⟨_, kF K hw q2057⟩⟩) (fun _ h => h) (Nat.le_of_ble_eq_true rfl) (Nat.le_of_ble_eq_true rfl) (Nat.le_of_ble_eq_true rfl) rfl rfl (by decide) (fs_one (⟨rfl, ff_65_180 s0 H0 oa D⟩))) ?_
  refine fs_c1 (fs_getf (pc := 267) (n := 767824132) (idx := 316) (ref := "BoardMachine$Kept") (O := "BoardMachine$Kept") (name := "word") (desc := "I") C (by decide +kernel) (Or.inr ⟨_, kF K hw q2060⟩) (fun _ h => h) (Nat.le_of_ble_eq_true rfl) (Nat.le_of_ble_eq_true rfl) (fs_one (⟨_, ff_65_183 s0 H0 oa D⟩))) ?_
  refine fs_c1 (fs_putf (pc := 270) (n := 918860076) (idx := 338) (ref := "BoardMachine$Processor") (O := "BoardMachine$Processor") (name := "word") (desc := "I") (fin := false) (ty := .int) C (by decide +kernel) (Or.inl ⟨rfl, Or.inl (kw K hw q2091)⟩) (fun _ h => h) (Nat.le_of_ble_eq_true rfl) (Nat.le_of_ble_eq_true rfl) (Nat.le_of_ble_eq_true rfl) rfl rfl (by decide) (fs_one (⟨rfl, ff_75_219 s0 H0 oa D⟩))) ?_
  refine fs_c1 (fs_getf (pc := 275) (n := 776212740) (idx := 319) (ref := "BoardMachine$Kept") (O := "BoardMachine$Kept") (name := "raw") (desc := "I") C (by decide +kernel) (Or.inr ⟨_, kF K hw q2062⟩) (fun _ h => h) (Nat.le_of_ble_eq_true rfl) (Nat.le_of_ble_eq_true rfl) (fs_one (⟨_, ff_65_185 s0 H0 oa D⟩))) ?_
  refine fs_c1 (fs_putf (pc := 278) (n := 923054380) (idx := 238) (ref := "BoardMachine$Processor") (O := "BoardMachine$Processor") (name := "raw") (desc := "I") (fin := false) (ty := .int) C (by decide +kernel) (Or.inl ⟨rfl, Or.inl (kw K hw q2092)⟩) (fun _ h => h) (Nat.le_of_ble_eq_true rfl) (Nat.le_of_ble_eq_true rfl) (Nat.le_of_ble_eq_true rfl) rfl rfl (by decide) (fs_one (⟨rfl, ff_75_220 s0 H0 oa D⟩))) ?_
  exact fs_c0
theorem hX46_illegal : fe_H (sX46_illegal FX46_raise) cX46_illegal [0, 24] fe_ki [] 20 (fun _ => dX46_illegal FX46_illegal_0 FX46_illegal_24) := by
  intro j pc L st M r hc h
  rcases fe_mem_c hc with rfl | hc
  · obtain ⟨w0, m0, h⟩ := fe_lR_d h
    obtain ⟨rfl, hz⟩ := fe_t0_d h
    exact ⟨[(0, .ref w0)], (fe_cs m0 fe_nl), Or.inr ((bX46_illegal_0 FX46_raise FX46_illegal_0 FX46_illegal_24 w0 M).symm.trans hz)⟩
  rcases fe_mem_c hc with rfl | hc
  · obtain ⟨s3, t3, rfl, g3⟩ := fe_tL_d h
    obtain ⟨s2, t2, rfl, g2⟩ := fe_tL_d g3
    obtain ⟨s1, t1, rfl, g1⟩ := fe_tI_d g2
    obtain ⟨s0, t0, rfl, g0⟩ := fe_tR_d g1
    obtain ⟨rfl, hz⟩ := fe_t0_d g0
    exact ⟨[], fe_nl, Or.inr ((bX46_illegal_24 FX46_raise FX46_illegal_0 FX46_illegal_24 s0 s1 s2 s3 M).symm.trans hz)⟩
  exact fe_mem_0 hc
theorem vX46_illegal : fe_SB (sX46_illegal FX46_raise) := by
  refine ⟨?_, ?_, ?_, ?_⟩
  · intro i As M r h
    exact fe_no h
  · intro i As M r h
    rcases fe_bc h with h | h
    · obtain ⟨v0, t0, rfl, g0⟩ := fe_tR_d h
      obtain ⟨v1, t1, rfl, g1⟩ := fe_tI_d g0
      obtain ⟨v2, t2, rfl, g2⟩ := fe_tL_d g1
      obtain ⟨rfl, hz⟩ := fe_t0_d g2
      exact mX46_raise v0 v1 v2 M r hz
    exact fe_no h
  · intro i As M r h
    exact fe_no h
  · intro i As M r h
    exact fe_no h
theorem eX46_illegal (g0 : Nat → FM → Option (Int32 × FM)) (g24 : Nat → Int32 → Int64 → Int64 → FM → Option (Int32 × FM)) (a0 : Nat) (M : FM) : dX46_illegal g0 g24 0 [(0, .ref a0)] [] M = g0 a0 M := by rfl
theorem mX46_illegal (a0 : Nat) (M : FM) (r : Int32 × FM) (h : FX46_illegal a0 M = some r) : fm_nx M ≤ fm_nx r.2 ∧ fm_ns M ≤ fm_ns r.2 :=
  fe_mono (L0 := [(0, .ref a0)]) (vX46_illegal) (by decide +kernel) (hX46_illegal) (fe_ki_k r) 0 rfl ((eX46_illegal FX46_illegal_0 FX46_illegal_24 a0 M).trans h)
theorem zX46_illegal {s0 : State} {H0 : Heap} {oa : Nat → Nat} {D : va_G} (K : fk s0 H0 oa D) (l : Launch) (a0 : Nat) (M : FM) (r : Int32 × FM) (h : FX46_illegal a0 M = some r) : fs_Con (fk_E s0 H0 oa D) l 7 ⟨"BoardMachine$Processor", "illegal", "()Z"⟩ prog_86_method_8_code 1 (Option.some Jvm.ClassFile.FieldType.boolean) [.ref a0] M (some (.int r.1)) r.2 := by
  have o0 : fs_OS (sX46_illegal FX46_raise) 0 1 (fs_Con (fk_E s0 H0 oa D) l 6 ⟨"BoardMachine$Processor", "raise", "(IJ)Z"⟩ prog_86_method_7_code 4 (Option.some Jvm.ClassFile.FieldType.boolean)) := by
    intro As M r h
    obtain ⟨v0, t0, rfl, g0⟩ := fe_tR_d h
    obtain ⟨v1, t1, rfl, g1⟩ := fe_tI_d g0
    obtain ⟨v2, t2, rfl, g2⟩ := fe_tL_d g1
    obtain ⟨rfl, hz⟩ := fe_t0_d g2
    exact zX46_raise K l v0 v1 v2 M r hz
  refine fs_method (own := "BoardMachine$Processor") rfl (by decide) K.2.1 (by rw [fe_slen]; exact (Nat.le_of_ble_eq_true rfl)) (mX46_illegal a0 M r h) (hX46_illegal) 0 rfl (L0 := [(0, .ref a0)]) (fun E => fe_args_e E [.ref a0] 0) ((eX46_illegal FX46_illegal_0 FX46_illegal_24 a0 M).trans h) (fe_ki_k r) (fun H hR => fs_nr_o (by decide) (by decide)) ?_
  intro p e s m args below meth c Q C hnm
  have hw : s0.WarmedH s.vm := C.2.2.2.2.1
  refine fe_all C fk_hwr cX46_illegal [3, 8, 15, 21, 25] (by decide +kernel) (fe_fil (cps := [(3, 6, .getfield 923054380), (8, 11, .getfield 927248684), (15, 18, .jsr_w (65535)), (21, 24, .jsr_w (4294967295)), (25, 28, .invokevirtual 13708363)]) (by decide +kernel) ?_)
  refine fs_c1 (fs_getf (pc := 3) (n := 923054380) (idx := 238) (ref := "BoardMachine$Processor") (O := "BoardMachine$Processor") (name := "raw") (desc := "I") C (by decide +kernel) (Or.inl (kw K hw q2092)) (fun _ h => h) (Nat.le_of_ble_eq_true rfl) (Nat.le_of_ble_eq_true rfl) (fs_one (⟨_, ff_75_220 s0 H0 oa D⟩))) ?_
  refine fs_c1 (fs_getf (pc := 8) (n := 927248684) (idx := 241) (ref := "BoardMachine$Processor") (O := "BoardMachine$Processor") (name := "length") (desc := "I") C (by decide +kernel) (Or.inl (kw K hw q2093)) (fun _ h => h) (Nat.le_of_ble_eq_true rfl) (Nat.le_of_ble_eq_true rfl) (fs_one (⟨_, ff_75_221 s0 H0 oa D⟩))) ?_
  refine fs_c1 (fs_ldcl (pc := 15) (idx := 244) (v := 65535) C (by decide +kernel) (kw K hw q3226)) ?_
  refine fs_c1 (fs_ldcl (pc := 21) (idx := 246) (v := 4294967295) C (by decide +kernel) (kw K hw q3227)) ?_
  refine fs_c1 (fs_inv_virtual (pc := 25) (n := 13708363) C (Nat.le_of_ble_eq_true rfl) (Nat.le_of_ble_eq_true rfl) (fs_lk_virtual (idx := 248) (y := ⟨"BoardMachine$Processor", "raise", "(IJ)Z"⟩) (bytes := prog_86_method_7_code) (maxL := 4) (rt := (Option.some Jvm.ClassFile.FieldType.boolean)) (d := 6) C (Nat.le_of_ble_eq_true rfl) (Nat.le_of_ble_eq_true rfl) (by decide +kernel) (kw K hw q3097) (kw K hw q357) (kw K hw q3096) (Or.inl (kw K hw q3094)) ⟨by decide, by decide⟩ rfl (Nat.le_of_ble_eq_true rfl) (Nat.le_of_ble_eq_true rfl) (fs_one (⟨_, rfl, kw K hw qs49⟩))) fs_con_mono o0) ?_
  exact fs_c0
theorem hX104_init : fe_H (sX104_init) cX104_init [0] fe_kv [] 20 (fun _ => dX104_init FX104_init_0) := by
  intro j pc L st M r hc h
  rcases fe_mem_c hc with rfl | hc
  · obtain ⟨w0, m0, h⟩ := fe_lR_d h
    obtain ⟨rfl, hz⟩ := fe_t0_d h
    exact ⟨[(0, .ref w0)], (fe_cs m0 fe_nl), Or.inr ((bX104_init_0 FX104_init_0 w0 M).symm.trans hz)⟩
  exact fe_mem_0 hc
theorem vX104_init : fe_SB (sX104_init) := by
  refine ⟨?_, ?_, ?_, ?_⟩
  · intro i As M r h
    exact fe_no h
  · intro i As M r h
    exact fe_no h
  · intro i As M r h
    exact fe_no h
  · intro i As M r h
    exact fe_no h
theorem eX104_init (g0 : Nat → FM → Option (FM)) (a0 : Nat) (M : FM) : dX104_init g0 0 [(0, .ref a0)] [] M = g0 a0 M := by rfl
theorem mX104_init (a0 : Nat) (M : FM) (r : FM) (h : FX104_init a0 M = some r) : fm_nx M ≤ fm_nx r ∧ fm_ns M ≤ fm_ns r :=
  fe_mono (L0 := [(0, .ref a0)]) (vX104_init) (by decide +kernel) (hX104_init) (fe_kv_k r) 0 rfl ((eX104_init FX104_init_0 a0 M).trans h)
theorem zX104_init {s0 : State} {H0 : Heap} {oa : Nat → Nat} {D : va_G} (K : fk s0 H0 oa D) (l : Launch) (a0 : Nat) (M : FM) (r : FM) (h : FX104_init a0 M = some r) : fs_Con (fk_E s0 H0 oa D) l 1 ⟨"BoardMachine$Integers$Decoded", "<init>", "()V"⟩ prog_63_method_1_code 1 (Option.none : Option Jvm.ClassFile.FieldType) [.ref a0] M none r := by
  refine fs_method (own := "BoardMachine$Integers$Decoded") rfl (by decide) K.2.1 (by rw [fe_slen]; exact (Nat.le_of_ble_eq_true rfl)) (mX104_init a0 M r h) (hX104_init) 0 rfl (L0 := [(0, .ref a0)]) (fun E => fe_args_e E [.ref a0] 0) ((eX104_init FX104_init_0 a0 M).trans h) (fe_kv_k r) (fun H hR => fs_nr_o (by decide) (by decide)) ?_
  intro p e s m args below meth c Q C hnm
  have hw : s0.WarmedH s.vm := C.2.2.2.2.1
  refine fe_all C fk_hwr cX104_init [1] (by decide +kernel) (fe_fil (cps := [(1, 4, .monitorenter)]) (by decide +kernel) ?_)
  refine fs_c1 (fs_init (pc := 1) (idx := 1) C (by decide +kernel) (kw K hw q3240) (kw K hw q441) (kw K hw q442) ⟨(Nat.le_of_ble_eq_true rfl), (Nat.le_of_ble_eq_true rfl)⟩) ?_
  exact fs_c0
theorem hX105_bits : fe_H (sX105_bits) cX105_bits [0] fe_ki [] 20 (fun _ => dX105_bits FX105_bits_0) := by
  intro j pc L st M r hc h
  rcases fe_mem_c hc with rfl | hc
  · obtain ⟨w0, m0, h⟩ := fe_lI_d h
    obtain ⟨w1, m1, h⟩ := fe_lI_d h
    obtain ⟨w2, m2, h⟩ := fe_lI_d h
    obtain ⟨rfl, hz⟩ := fe_t0_d h
    exact ⟨[(0, .int w0), (1, .int w1), (2, .int w2)], (fe_cs m0 (fe_cs m1 (fe_cs m2 fe_nl))), Or.inr ((bX105_bits_0 FX105_bits_0 w0 w1 w2 M).symm.trans hz)⟩
  exact fe_mem_0 hc
theorem vX105_bits : fe_SB (sX105_bits) := by
  refine ⟨?_, ?_, ?_, ?_⟩
  · intro i As M r h
    exact fe_no h
  · intro i As M r h
    exact fe_no h
  · intro i As M r h
    exact fe_no h
  · intro i As M r h
    exact fe_no h
theorem eX105_bits (g0 : Int32 → Int32 → Int32 → FM → Option (Int32 × FM)) (a0 : Int32) (a1 : Int32) (a2 : Int32) (M : FM) : dX105_bits g0 0 [(0, .int a0), (1, .int a1), (2, .int a2)] [] M = g0 a0 a1 a2 M := by rfl
theorem mX105_bits (a0 : Int32) (a1 : Int32) (a2 : Int32) (M : FM) (r : Int32 × FM) (h : FX105_bits a0 a1 a2 M = some r) : fm_nx M ≤ fm_nx r.2 ∧ fm_ns M ≤ fm_ns r.2 :=
  fe_mono (L0 := [(0, .int a0), (1, .int a1), (2, .int a2)]) (vX105_bits) (by decide +kernel) (hX105_bits) (fe_ki_k r) 0 rfl ((eX105_bits FX105_bits_0 a0 a1 a2 M).trans h)
theorem zX105_bits {s0 : State} {H0 : Heap} {oa : Nat → Nat} {D : va_G} (K : fk s0 H0 oa D) (l : Launch) (a0 : Int32) (a1 : Int32) (a2 : Int32) (M : FM) (r : Int32 × FM) (h : FX105_bits a0 a1 a2 M = some r) : fs_Con (fk_E s0 H0 oa D) l 1 ⟨"BoardMachine$Integers$Fields", "bits", "(III)I"⟩ prog_66_method_2_code 3 (Option.some Jvm.ClassFile.FieldType.int) [.int a0, .int a1, .int a2] M (some (.int r.1)) r.2 := by
  refine fs_method (own := "BoardMachine$Integers$Fields") rfl (by decide) K.2.1 (by rw [fe_slen]; exact (Nat.le_of_ble_eq_true rfl)) (mX105_bits a0 a1 a2 M r h) (hX105_bits) 0 rfl (L0 := [(0, .int a0), (1, .int a1), (2, .int a2)]) (fun E => fe_args_e E [.int a0, .int a1, .int a2] 0) ((eX105_bits FX105_bits_0 a0 a1 a2 M).trans h) (fe_ki_k r) (fun H hR => fs_nr_o (by decide) (by decide)) ?_
  intro p e s m args below meth c Q C hnm
  have hw : s0.WarmedH s.vm := C.2.2.2.2.1
  refine fe_all C fk_hwr cX105_bits [] (by decide +kernel) (fe_fil (cps := []) (by decide +kernel) ?_)
  exact fs_c0
theorem hX49_access : fe_H (sX49_access) cX49_access [0, 38] fe_ka [] 25 (fun _ => dX49_access FX49_access_0 FX49_access_38) := by
  intro j pc L st M r hc h
  rcases fe_mem_c hc with rfl | hc
  · obtain ⟨w0, m0, h⟩ := fe_lR_d h
    obtain ⟨w1, m1, h⟩ := fe_lR_d h
    obtain ⟨w2, m2, h⟩ := fe_lI_d h
    obtain ⟨w3, m3, h⟩ := fe_lI_d h
    obtain ⟨w4, m4, h⟩ := fe_lL_d h
    obtain ⟨w6, m6, h⟩ := fe_lI_d h
    obtain ⟨w7, m7, h⟩ := fe_lI_d h
    obtain ⟨rfl, hz⟩ := fe_t0_d h
    exact ⟨[(0, .ref w0), (1, .ref w1), (2, .int w2), (3, .int w3), (4, .long w4), (6, .int w6), (7, .int w7)], (fe_cs m0 (fe_cs m1 (fe_cs m2 (fe_cs m3 (fe_cs m4 (fe_cs m6 (fe_cs m7 fe_nl))))))), Or.inr ((bX49_access_0 FX49_access_0 FX49_access_38 w0 w1 w2 w3 w4 w6 w7 M).symm.trans hz)⟩
  rcases fe_mem_c hc with rfl | hc
  · obtain ⟨s0, t0, rfl, g0⟩ := fe_tR_d h
    obtain ⟨rfl, hz⟩ := fe_t0_d g0
    exact ⟨[], fe_nl, Or.inr ((bX49_access_38 FX49_access_0 FX49_access_38 s0 M).symm.trans hz)⟩
  exact fe_mem_0 hc
theorem vX49_access : fe_SB (sX49_access) := by
  refine ⟨?_, ?_, ?_, ?_⟩
  · intro i As M r h
    exact fe_no h
  · intro i As M r h
    exact fe_no h
  · intro i As M r h
    exact fe_no h
  · intro i As M r h
    exact fe_no h
theorem eX49_access (g0 : Nat → Nat → Int32 → Int32 → Int64 → Int32 → Int32 → FM → Option (Nat × FM)) (g38 : Nat → FM → Option (Nat × FM)) (a0 : Nat) (a1 : Nat) (a2 : Int32) (a3 : Int32) (a4 : Int64) (a6 : Int32) (a7 : Int32) (M : FM) : dX49_access g0 g38 0 [(0, .ref a0), (1, .ref a1), (2, .int a2), (3, .int a3), (4, .long a4), (6, .int a6), (7, .int a7)] [] M = g0 a0 a1 a2 a3 a4 a6 a7 M := by rfl
theorem mX49_access (a0 : Nat) (a1 : Nat) (a2 : Int32) (a3 : Int32) (a4 : Int64) (a6 : Int32) (a7 : Int32) (M : FM) (r : Nat × FM) (h : FX49_access a0 a1 a2 a3 a4 a6 a7 M = some r) : fm_nx M ≤ fm_nx r.2 ∧ fm_ns M ≤ fm_ns r.2 :=
  fe_mono (L0 := [(0, .ref a0), (1, .ref a1), (2, .int a2), (3, .int a3), (4, .long a4), (6, .int a6), (7, .int a7)]) (vX49_access) (by decide +kernel) (hX49_access) (fe_ka_k r) 0 rfl ((eX49_access FX49_access_0 FX49_access_38 a0 a1 a2 a3 a4 a6 a7 M).trans h)
theorem zX49_access {s0 : State} {H0 : Heap} {oa : Nat → Nat} {D : va_G} (K : fk s0 H0 oa D) (l : Launch) (a0 : Nat) (a1 : Nat) (a2 : Int32) (a3 : Int32) (a4 : Int64) (a6 : Int32) (a7 : Int32) (M : FM) (r : Nat × FM) (h : FX49_access a0 a1 a2 a3 a4 a6 a7 M = some r) : fs_Con (fk_E s0 H0 oa D) l 1 ⟨"BoardMachine$Integers$Decoder", "access", "(LBoardMachine$Integers$Decoded;ZIJII)LBoardMachine$Integers$Action;"⟩ prog_64_method_8_code 8 (Option.some (Jvm.ClassFile.FieldType.object "BoardMachine$Integers$Action")) [.ref a0, .ref a1, .int a2, .int a3, .long a4, .int a6, .int a7] M (some (.ref r.1)) r.2 := by
  refine fs_method (own := "BoardMachine$Integers$Decoder") rfl (by decide) K.2.1 (by rw [fe_slen]; exact (Nat.le_of_ble_eq_true rfl)) (mX49_access a0 a1 a2 a3 a4 a6 a7 M r h) (hX49_access) 0 rfl (L0 := [(0, .ref a0), (1, .ref a1), (2, .int a2), (3, .int a3), (4, .long a4), (6, .int a6), (7, .int a7)]) (fun E => fe_args_e E [.ref a0, .ref a1, .int a2, .int a3, .long a4, .int a6, .int a7] 0) ((eX49_access FX49_access_0 FX49_access_38 a0 a1 a2 a3 a4 a6 a7 M).trans h) (fe_ka_k r) (fun H hR => fs_nr_o (by decide) (by decide)) ?_
  intro p e s m args below meth c Q C hnm
  have hw : s0.WarmedH s.vm := C.2.2.2.2.1
  refine fe_all C fk_hwr cX49_access [2, 8, 14, 20, 28, 35] (by decide +kernel) (fe_fil (cps := [(2, 5, .putfield 662950132), (8, 11, .putfield 646172917), (14, 17, .putfield 667144436), (20, 23, .putfield 671338740), (28, 31, .getfield 709091578), (35, 38, .getfield 675537146)]) (by decide +kernel) ?_)
  refine fs_c1 (fs_putf (pc := 2) (n := 662950132) (idx := 169) (ref := "BoardMachine$Integers$Decoded") (O := "BoardMachine$Integers$Decoded") (name := "kind") (desc := "I") (fin := false) (ty := .int) C (by decide +kernel) (Or.inl ⟨rfl, Or.inr ⟨_, kF K hw q3279⟩⟩) (fun _ h => h) (Nat.le_of_ble_eq_true rfl) (Nat.le_of_ble_eq_true rfl) (Nat.le_of_ble_eq_true rfl) rfl rfl (by decide) (fs_one (⟨rfl, ff_61_158 s0 H0 oa D⟩))) ?_
  refine fs_c1 (fs_putf (pc := 8) (n := 646172917) (idx := 144) (ref := "BoardMachine$Integers$Decoded") (O := "BoardMachine$Integers$Decoded") (name := "immediate") (desc := "J") (fin := false) (ty := .long) C (by decide +kernel) (Or.inl ⟨rfl, Or.inr ⟨_, kF K hw q3268⟩⟩) (fun _ h => h) (Nat.le_of_ble_eq_true rfl) (Nat.le_of_ble_eq_true rfl) (Nat.le_of_ble_eq_true rfl) rfl rfl (by decide) (fs_one (⟨rfl, ff_61_154 s0 H0 oa D⟩))) ?_
  refine fs_c1 (fs_putf (pc := 14) (n := 667144436) (idx := 172) (ref := "BoardMachine$Integers$Decoded") (O := "BoardMachine$Integers$Decoded") (name := "size") (desc := "I") (fin := false) (ty := .int) C (by decide +kernel) (Or.inl ⟨rfl, Or.inr ⟨_, kF K hw q3281⟩⟩) (fun _ h => h) (Nat.le_of_ble_eq_true rfl) (Nat.le_of_ble_eq_true rfl) (Nat.le_of_ble_eq_true rfl) rfl rfl (by decide) (fs_one (⟨rfl, ff_61_159 s0 H0 oa D⟩))) ?_
  refine fs_c1 (fs_putf (pc := 20) (n := 671338740) (idx := 175) (ref := "BoardMachine$Integers$Decoded") (O := "BoardMachine$Integers$Decoded") (name := "sort") (desc := "I") (fin := false) (ty := .int) C (by decide +kernel) (Or.inl ⟨rfl, Or.inr ⟨_, kF K hw q3285⟩⟩) (fun _ h => h) (Nat.le_of_ble_eq_true rfl) (Nat.le_of_ble_eq_true rfl) (Nat.le_of_ble_eq_true rfl) rfl rfl (by decide) (fs_one (⟨rfl, ff_61_160 s0 H0 oa D⟩))) ?_
  refine fs_c1 (fs_getf (pc := 28) (n := 709091578) (idx := 59) (ref := "BoardMachine$Integers$Decoder") (O := "BoardMachine$Integers$Decoder") (name := "access") (desc := "LBoardMachine$Integers$Action;") C (by decide +kernel) (Or.inl (kw K hw q1378)) (fun _ h => h) (Nat.le_of_ble_eq_true rfl) (Nat.le_of_ble_eq_true rfl) (fs_one (⟨_, ff_62_169 s0 H0 oa D⟩))) ?_
  refine fs_c1 (fs_getf (pc := 35) (n := 675537146) (idx := 12) (ref := "BoardMachine$Integers$Decoder") (O := "BoardMachine$Integers$Decoder") (name := "illegal") (desc := "LBoardMachine$Integers$Action;") C (by decide +kernel) (Or.inl (kw K hw q1370)) (fun _ h => h) (Nat.le_of_ble_eq_true rfl) (Nat.le_of_ble_eq_true rfl) (fs_one (⟨_, ff_62_161 s0 H0 oa D⟩))) ?_
  exact fs_c0
theorem hX49_atomic : fe_H (sX49_atomic FX105_bits FX49_access) cX49_atomic [0, 22, 33, 45, 49, 50] fe_ka [] 45 (fun _ => dX49_atomic FX49_atomic_0 FX49_atomic_22 FX49_atomic_33 FX49_atomic_45 FX49_atomic_49 FX49_atomic_50) := by
  intro j pc L st M r hc h
  rcases fe_mem_c hc with rfl | hc
  · obtain ⟨w0, m0, h⟩ := fe_lR_d h
    obtain ⟨w1, m1, h⟩ := fe_lR_d h
    obtain ⟨w2, m2, h⟩ := fe_lI_d h
    obtain ⟨rfl, hz⟩ := fe_t0_d h
    exact ⟨[(0, .ref w0), (1, .ref w1), (2, .int w2)], (fe_cs m0 (fe_cs m1 (fe_cs m2 fe_nl))), Or.inr ((bX49_atomic_0 FX105_bits FX49_access FX49_atomic_0 FX49_atomic_22 FX49_atomic_33 FX49_atomic_45 FX49_atomic_49 FX49_atomic_50 w0 w1 w2 M).symm.trans hz)⟩
  rcases fe_mem_c hc with rfl | hc
  · obtain ⟨w0, m0, h⟩ := fe_lR_d h
    obtain ⟨w1, m1, h⟩ := fe_lR_d h
    obtain ⟨w2, m2, h⟩ := fe_lI_d h
    obtain ⟨w3, m3, h⟩ := fe_lI_d h
    obtain ⟨rfl, hz⟩ := fe_t0_d h
    exact ⟨[(0, .ref w0), (1, .ref w1), (2, .int w2), (3, .int w3)], (fe_cs m0 (fe_cs m1 (fe_cs m2 (fe_cs m3 fe_nl)))), Or.inr ((bX49_atomic_22 FX105_bits FX49_access FX49_atomic_0 FX49_atomic_22 FX49_atomic_33 FX49_atomic_45 FX49_atomic_49 FX49_atomic_50 w0 w1 w2 w3 M).symm.trans hz)⟩
  rcases fe_mem_c hc with rfl | hc
  · obtain ⟨w0, m0, h⟩ := fe_lR_d h
    obtain ⟨w1, m1, h⟩ := fe_lR_d h
    obtain ⟨w2, m2, h⟩ := fe_lI_d h
    obtain ⟨w3, m3, h⟩ := fe_lI_d h
    obtain ⟨rfl, hz⟩ := fe_t0_d h
    exact ⟨[(0, .ref w0), (1, .ref w1), (2, .int w2), (3, .int w3)], (fe_cs m0 (fe_cs m1 (fe_cs m2 (fe_cs m3 fe_nl)))), Or.inr ((bX49_atomic_33 FX105_bits FX49_access FX49_atomic_0 FX49_atomic_22 FX49_atomic_33 FX49_atomic_45 FX49_atomic_49 FX49_atomic_50 w0 w1 w2 w3 M).symm.trans hz)⟩
  rcases fe_mem_c hc with rfl | hc
  · obtain ⟨w0, m0, h⟩ := fe_lR_d h
    obtain ⟨w1, m1, h⟩ := fe_lR_d h
    obtain ⟨w2, m2, h⟩ := fe_lI_d h
    obtain ⟨w3, m3, h⟩ := fe_lI_d h
    obtain ⟨rfl, hz⟩ := fe_t0_d h
    exact ⟨[(0, .ref w0), (1, .ref w1), (2, .int w2), (3, .int w3)], (fe_cs m0 (fe_cs m1 (fe_cs m2 (fe_cs m3 fe_nl)))), Or.inr ((bX49_atomic_45 FX105_bits FX49_access FX49_atomic_0 FX49_atomic_22 FX49_atomic_33 FX49_atomic_45 FX49_atomic_49 FX49_atomic_50 w0 w1 w2 w3 M).symm.trans hz)⟩
  rcases fe_mem_c hc with rfl | hc
  · obtain ⟨w0, m0, h⟩ := fe_lR_d h
    obtain ⟨w1, m1, h⟩ := fe_lR_d h
    obtain ⟨w2, m2, h⟩ := fe_lI_d h
    obtain ⟨w3, m3, h⟩ := fe_lI_d h
    obtain ⟨rfl, hz⟩ := fe_t0_d h
    exact ⟨[(0, .ref w0), (1, .ref w1), (2, .int w2), (3, .int w3)], (fe_cs m0 (fe_cs m1 (fe_cs m2 (fe_cs m3 fe_nl)))), Or.inr ((bX49_atomic_49 FX105_bits FX49_access FX49_atomic_0 FX49_atomic_22 FX49_atomic_33 FX49_atomic_45 FX49_atomic_49 FX49_atomic_50 w0 w1 w2 w3 M).symm.trans hz)⟩
  rcases fe_mem_c hc with rfl | hc
  · obtain ⟨w0, m0, h⟩ := fe_lR_d h
    obtain ⟨w1, m1, h⟩ := fe_lR_d h
    obtain ⟨w2, m2, h⟩ := fe_lI_d h
    obtain ⟨w3, m3, h⟩ := fe_lI_d h
    obtain ⟨s0, t0, rfl, g0⟩ := fe_tI_d h
    obtain ⟨rfl, hz⟩ := fe_t0_d g0
    exact ⟨[(0, .ref w0), (1, .ref w1), (2, .int w2), (3, .int w3)], (fe_cs m0 (fe_cs m1 (fe_cs m2 (fe_cs m3 fe_nl)))), Or.inr ((bX49_atomic_50 FX105_bits FX49_access FX49_atomic_0 FX49_atomic_22 FX49_atomic_33 FX49_atomic_45 FX49_atomic_49 FX49_atomic_50 w0 w1 w2 w3 s0 M).symm.trans hz)⟩
  exact fe_mem_0 hc
theorem vX49_atomic : fe_SB (sX49_atomic FX105_bits FX49_access) := by
  refine ⟨?_, ?_, ?_, ?_⟩
  · intro i As M r h
    exact fe_no h
  · intro i As M r h
    rcases fe_bc h with h | h
    · obtain ⟨v0, t0, rfl, g0⟩ := fe_tI_d h
      obtain ⟨v1, t1, rfl, g1⟩ := fe_tI_d g0
      obtain ⟨v2, t2, rfl, g2⟩ := fe_tI_d g1
      obtain ⟨rfl, hz⟩ := fe_t0_d g2
      exact mX105_bits v0 v1 v2 M r hz
    exact fe_no h
  · intro i As M r h
    exact fe_no h
  · intro i As M r h
    rcases fe_bc h with h | h
    · obtain ⟨v0, t0, rfl, g0⟩ := fe_tR_d h
      obtain ⟨v1, t1, rfl, g1⟩ := fe_tR_d g0
      obtain ⟨v2, t2, rfl, g2⟩ := fe_tI_d g1
      obtain ⟨v3, t3, rfl, g3⟩ := fe_tI_d g2
      obtain ⟨v4, t4, rfl, g4⟩ := fe_tL_d g3
      obtain ⟨v5, t5, rfl, g5⟩ := fe_tI_d g4
      obtain ⟨v6, t6, rfl, g6⟩ := fe_tI_d g5
      obtain ⟨rfl, hz⟩ := fe_t0_d g6
      exact mX49_access v0 v1 v2 v3 v4 v5 v6 M r hz
    exact fe_no h
theorem eX49_atomic (g0 : Nat → Nat → Int32 → FM → Option (Nat × FM)) (g22 : Nat → Nat → Int32 → Int32 → FM → Option (Nat × FM)) (g33 : Nat → Nat → Int32 → Int32 → FM → Option (Nat × FM)) (g45 : Nat → Nat → Int32 → Int32 → FM → Option (Nat × FM)) (g49 : Nat → Nat → Int32 → Int32 → FM → Option (Nat × FM)) (g50 : Nat → Nat → Int32 → Int32 → Int32 → FM → Option (Nat × FM)) (a0 : Nat) (a1 : Nat) (a2 : Int32) (M : FM) : dX49_atomic g0 g22 g33 g45 g49 g50 0 [(0, .ref a0), (1, .ref a1), (2, .int a2)] [] M = g0 a0 a1 a2 M := by rfl
theorem mX49_atomic (a0 : Nat) (a1 : Nat) (a2 : Int32) (M : FM) (r : Nat × FM) (h : FX49_atomic a0 a1 a2 M = some r) : fm_nx M ≤ fm_nx r.2 ∧ fm_ns M ≤ fm_ns r.2 :=
  fe_mono (L0 := [(0, .ref a0), (1, .ref a1), (2, .int a2)]) (vX49_atomic) (by decide +kernel) (hX49_atomic) (fe_ka_k r) 0 rfl ((eX49_atomic FX49_atomic_0 FX49_atomic_22 FX49_atomic_33 FX49_atomic_45 FX49_atomic_49 FX49_atomic_50 a0 a1 a2 M).trans h)
theorem zX49_atomic {s0 : State} {H0 : Heap} {oa : Nat → Nat} {D : va_G} (K : fk s0 H0 oa D) (l : Launch) (a0 : Nat) (a1 : Nat) (a2 : Int32) (M : FM) (r : Nat × FM) (h : FX49_atomic a0 a1 a2 M = some r) : fs_Con (fk_E s0 H0 oa D) l 2 ⟨"BoardMachine$Integers$Decoder", "atomic", "(LBoardMachine$Integers$Decoded;I)LBoardMachine$Integers$Action;"⟩ prog_64_method_10_code 5 (Option.some (Jvm.ClassFile.FieldType.object "BoardMachine$Integers$Action")) [.ref a0, .ref a1, .int a2] M (some (.ref r.1)) r.2 := by
  have o0 : fs_OS (sX49_atomic FX105_bits FX49_access) 0 1 (fs_Con (fk_E s0 H0 oa D) l 1 ⟨"BoardMachine$Integers$Fields", "bits", "(III)I"⟩ prog_66_method_2_code 3 (Option.some Jvm.ClassFile.FieldType.int)) := by
    intro As M r h
    obtain ⟨v0, t0, rfl, g0⟩ := fe_tI_d h
    obtain ⟨v1, t1, rfl, g1⟩ := fe_tI_d g0
    obtain ⟨v2, t2, rfl, g2⟩ := fe_tI_d g1
    obtain ⟨rfl, hz⟩ := fe_t0_d g2
    exact zX105_bits K l v0 v1 v2 M r hz
  have o1 : fs_OS (sX49_atomic FX105_bits FX49_access) 1 3 (fs_Con (fk_E s0 H0 oa D) l 1 ⟨"BoardMachine$Integers$Decoder", "access", "(LBoardMachine$Integers$Decoded;ZIJII)LBoardMachine$Integers$Action;"⟩ prog_64_method_8_code 8 (Option.some (Jvm.ClassFile.FieldType.object "BoardMachine$Integers$Action"))) := by
    intro As M r h
    obtain ⟨v0, t0, rfl, g0⟩ := fe_tR_d h
    obtain ⟨v1, t1, rfl, g1⟩ := fe_tR_d g0
    obtain ⟨v2, t2, rfl, g2⟩ := fe_tI_d g1
    obtain ⟨v3, t3, rfl, g3⟩ := fe_tI_d g2
    obtain ⟨v4, t4, rfl, g4⟩ := fe_tL_d g3
    obtain ⟨v5, t5, rfl, g5⟩ := fe_tI_d g4
    obtain ⟨v6, t6, rfl, g6⟩ := fe_tI_d g5
    obtain ⟨rfl, hz⟩ := fe_t0_d g6
    exact zX49_access K l v0 v1 v2 v3 v4 v5 v6 M r hz
  refine fs_method (own := "BoardMachine$Integers$Decoder") rfl (by decide) K.2.1 (by rw [fe_slen]; exact (Nat.le_of_ble_eq_true rfl)) (mX49_atomic a0 a1 a2 M r h) (hX49_atomic) 0 rfl (L0 := [(0, .ref a0), (1, .ref a1), (2, .int a2)]) (fun E => fe_args_e E [.ref a0, .ref a1, .int a2] 0) ((eX49_atomic FX49_atomic_0 FX49_atomic_22 FX49_atomic_33 FX49_atomic_45 FX49_atomic_49 FX49_atomic_50 a0 a1 a2 M).trans h) (fe_ka_k r) (fun H hR => fs_nr_o (by decide) (by decide)) ?_
  intro p e s m args below meth c Q C hnm
  have hw : s0.WarmedH s.vm := C.2.2.2.2.1
  refine fe_all C fk_hwr cX49_atomic [1, 8, 39, 62] (by decide +kernel) (fe_fil (cps := [(1, 4, .getfield 629395700), (8, 11, .invokestatic 13), (39, 42, .getfield 641978612), (62, 65, .invokevirtual 99678270)]) (by decide +kernel) ?_)
  refine fs_c1 (fs_getf (pc := 1) (n := 629395700) (idx := 148) (ref := "BoardMachine$Integers$Decoded") (O := "BoardMachine$Integers$Decoded") (name := "word") (desc := "I") C (by decide +kernel) (Or.inr ⟨_, kF K hw q3244⟩) (fun _ h => h) (Nat.le_of_ble_eq_true rfl) (Nat.le_of_ble_eq_true rfl) (fs_one (⟨_, ff_61_150 s0 H0 oa D⟩))) ?_
  refine fs_c1 (fs_inv_static (pc := 8) (n := 13) C (fs_lk_static (idx := 161) (y := ⟨"BoardMachine$Integers$Fields", "bits", "(III)I"⟩) (bytes := prog_66_method_2_code) (maxL := 3) (rt := (Option.some Jvm.ClassFile.FieldType.int)) (d := 1) C (by decide +kernel) (kw K hw q3317) (kw K hw q430) (kw K hw q3316) (Or.inl (kw K hw q3315)) ⟨by decide, by decide⟩ rfl (Nat.le_of_ble_eq_true rfl) (Nat.le_of_ble_eq_true rfl)) fs_con_mono o0) ?_
  refine fs_c1 (fs_getf (pc := 39) (n := 641978612) (idx := 187) (ref := "BoardMachine$Integers$Decoded") (O := "BoardMachine$Integers$Decoded") (name := "b") (desc := "I") C (by decide +kernel) (Or.inr ⟨_, kF K hw q3261⟩) (fun _ h => h) (Nat.le_of_ble_eq_true rfl) (Nat.le_of_ble_eq_true rfl) (fs_one (⟨_, ff_61_153 s0 H0 oa D⟩))) ?_
  refine fs_c1 (fs_inv_virtual (pc := 62) (n := 99678270) C (Nat.le_of_ble_eq_true rfl) (Nat.le_of_ble_eq_true rfl) (fs_lk_virtual (idx := 184) (y := ⟨"BoardMachine$Integers$Decoder", "access", "(LBoardMachine$Integers$Decoded;ZIJII)LBoardMachine$Integers$Action;"⟩) (bytes := prog_64_method_8_code) (maxL := 8) (rt := (Option.some (Jvm.ClassFile.FieldType.object "BoardMachine$Integers$Action"))) (d := 1) C (Nat.le_of_ble_eq_true rfl) (Nat.le_of_ble_eq_true rfl) (by decide +kernel) (kw K hw q3403) (kw K hw q360) (kw K hw q3402) (Or.inl (kw K hw q3400)) ⟨by decide, by decide⟩ rfl (Nat.le_of_ble_eq_true rfl) (Nat.le_of_ble_eq_true rfl) (fs_one (⟨_, rfl, kw K hw qs60⟩))) fs_con_mono o1) ?_
  exact fs_c0
theorem hX105_immediateB : fe_H (sX105_immediateB FX105_bits) cX105_immediateB [0] fe_kl [] 33 (fun _ => dX105_immediateB FX105_immediateB_0) := by
  intro j pc L st M r hc h
  rcases fe_mem_c hc with rfl | hc
  · obtain ⟨w0, m0, h⟩ := fe_lI_d h
    obtain ⟨rfl, hz⟩ := fe_t0_d h
    exact ⟨[(0, .int w0)], (fe_cs m0 fe_nl), Or.inr ((bX105_immediateB_0 FX105_bits FX105_immediateB_0 w0 M).symm.trans hz)⟩
  exact fe_mem_0 hc
theorem vX105_immediateB : fe_SB (sX105_immediateB FX105_bits) := by
  refine ⟨?_, ?_, ?_, ?_⟩
  · intro i As M r h
    exact fe_no h
  · intro i As M r h
    rcases fe_bc h with h | h
    · obtain ⟨v0, t0, rfl, g0⟩ := fe_tI_d h
      obtain ⟨v1, t1, rfl, g1⟩ := fe_tI_d g0
      obtain ⟨v2, t2, rfl, g2⟩ := fe_tI_d g1
      obtain ⟨rfl, hz⟩ := fe_t0_d g2
      exact mX105_bits v0 v1 v2 M r hz
    exact fe_no h
  · intro i As M r h
    exact fe_no h
  · intro i As M r h
    exact fe_no h
theorem eX105_immediateB (g0 : Int32 → FM → Option (Int64 × FM)) (a0 : Int32) (M : FM) : dX105_immediateB g0 0 [(0, .int a0)] [] M = g0 a0 M := by rfl
theorem mX105_immediateB (a0 : Int32) (M : FM) (r : Int64 × FM) (h : FX105_immediateB a0 M = some r) : fm_nx M ≤ fm_nx r.2 ∧ fm_ns M ≤ fm_ns r.2 :=
  fe_mono (L0 := [(0, .int a0)]) (vX105_immediateB) (by decide +kernel) (hX105_immediateB) (fe_kl_k r) 0 rfl ((eX105_immediateB FX105_immediateB_0 a0 M).trans h)
theorem zX105_immediateB {s0 : State} {H0 : Heap} {oa : Nat → Nat} {D : va_G} (K : fk s0 H0 oa D) (l : Launch) (a0 : Int32) (M : FM) (r : Int64 × FM) (h : FX105_immediateB a0 M = some r) : fs_Con (fk_E s0 H0 oa D) l 2 ⟨"BoardMachine$Integers$Fields", "immediateB", "(I)J"⟩ prog_66_method_5_code 1 (Option.some Jvm.ClassFile.FieldType.long) [.int a0] M (some (.long r.1)) r.2 := by
  have o0 : fs_OS (sX105_immediateB FX105_bits) 0 1 (fs_Con (fk_E s0 H0 oa D) l 1 ⟨"BoardMachine$Integers$Fields", "bits", "(III)I"⟩ prog_66_method_2_code 3 (Option.some Jvm.ClassFile.FieldType.int)) := by
    intro As M r h
    obtain ⟨v0, t0, rfl, g0⟩ := fe_tI_d h
    obtain ⟨v1, t1, rfl, g1⟩ := fe_tI_d g0
    obtain ⟨v2, t2, rfl, g2⟩ := fe_tI_d g1
    obtain ⟨rfl, hz⟩ := fe_t0_d g2
    exact zX105_bits K l v0 v1 v2 M r hz
  refine fs_method (own := "BoardMachine$Integers$Fields") rfl (by decide) K.2.1 (by rw [fe_slen]; exact (Nat.le_of_ble_eq_true rfl)) (mX105_immediateB a0 M r h) (hX105_immediateB) 0 rfl (L0 := [(0, .int a0)]) (fun E => fe_args_e E [.int a0] 0) ((eX105_immediateB FX105_immediateB_0 a0 M).trans h) (fe_kl_k r) (fun H hR => fs_nr_o (by decide) (by decide)) ?_
  intro p e s m args below meth c Q C hnm
  have hw : s0.WarmedH s.vm := C.2.2.2.2.1
  refine fe_all C fk_hwr cX105_immediateB [12, 24, 35] (by decide +kernel) (fe_fil (cps := [(12, 15, .invokestatic 13), (24, 27, .invokestatic 13), (35, 38, .invokestatic 13)]) (by decide +kernel) ?_)
  refine fs_c1 (fs_inv_static (pc := 12) (n := 13) C (fs_lk_static (idx := 7) (y := ⟨"BoardMachine$Integers$Fields", "bits", "(III)I"⟩) (bytes := prog_66_method_2_code) (maxL := 3) (rt := (Option.some Jvm.ClassFile.FieldType.int)) (d := 1) C (by decide +kernel) (kw K hw q3317) (kw K hw q430) (kw K hw q3316) (Or.inl (kw K hw q3332)) ⟨by decide, by decide⟩ rfl (Nat.le_of_ble_eq_true rfl) (Nat.le_of_ble_eq_true rfl)) fs_con_mono o0) ?_
  refine fs_c1 (fs_inv_static (pc := 24) (n := 13) C (fs_lk_static (idx := 7) (y := ⟨"BoardMachine$Integers$Fields", "bits", "(III)I"⟩) (bytes := prog_66_method_2_code) (maxL := 3) (rt := (Option.some Jvm.ClassFile.FieldType.int)) (d := 1) C (by decide +kernel) (kw K hw q3317) (kw K hw q430) (kw K hw q3316) (Or.inl (kw K hw q3332)) ⟨by decide, by decide⟩ rfl (Nat.le_of_ble_eq_true rfl) (Nat.le_of_ble_eq_true rfl)) fs_con_mono o0) ?_
  refine fs_c1 (fs_inv_static (pc := 35) (n := 13) C (fs_lk_static (idx := 7) (y := ⟨"BoardMachine$Integers$Fields", "bits", "(III)I"⟩) (bytes := prog_66_method_2_code) (maxL := 3) (rt := (Option.some Jvm.ClassFile.FieldType.int)) (d := 1) C (by decide +kernel) (kw K hw q3317) (kw K hw q430) (kw K hw q3316) (Or.inl (kw K hw q3332)) ⟨by decide, by decide⟩ rfl (Nat.le_of_ble_eq_true rfl) (Nat.le_of_ble_eq_true rfl)) fs_con_mono o0) ?_
  exact fs_c0
theorem hX49_branch : fe_H (sX49_branch FX105_immediateB) cX49_branch [0, 26, 37] fe_ka [] 25 (fun _ => dX49_branch FX49_branch_0 FX49_branch_26 FX49_branch_37) := by
  intro j pc L st M r hc h
  rcases fe_mem_c hc with rfl | hc
  · obtain ⟨w0, m0, h⟩ := fe_lR_d h
    obtain ⟨w1, m1, h⟩ := fe_lR_d h
    obtain ⟨w2, m2, h⟩ := fe_lI_d h
    obtain ⟨rfl, hz⟩ := fe_t0_d h
    exact ⟨[(0, .ref w0), (1, .ref w1), (2, .int w2)], (fe_cs m0 (fe_cs m1 (fe_cs m2 fe_nl))), Or.inr ((bX49_branch_0 FX105_immediateB FX49_branch_0 FX49_branch_26 FX49_branch_37 w0 w1 w2 M).symm.trans hz)⟩
  rcases fe_mem_c hc with rfl | hc
  · obtain ⟨w0, m0, h⟩ := fe_lR_d h
    obtain ⟨rfl, hz⟩ := fe_t0_d h
    exact ⟨[(0, .ref w0)], (fe_cs m0 fe_nl), Or.inr ((bX49_branch_26 FX105_immediateB FX49_branch_0 FX49_branch_26 FX49_branch_37 w0 M).symm.trans hz)⟩
  rcases fe_mem_c hc with rfl | hc
  · obtain ⟨s0, t0, rfl, g0⟩ := fe_tR_d h
    obtain ⟨rfl, hz⟩ := fe_t0_d g0
    exact ⟨[], fe_nl, Or.inr ((bX49_branch_37 FX105_immediateB FX49_branch_0 FX49_branch_26 FX49_branch_37 s0 M).symm.trans hz)⟩
  exact fe_mem_0 hc
theorem vX49_branch : fe_SB (sX49_branch FX105_immediateB) := by
  refine ⟨?_, ?_, ?_, ?_⟩
  · intro i As M r h
    exact fe_no h
  · intro i As M r h
    exact fe_no h
  · intro i As M r h
    rcases fe_bc h with h | h
    · obtain ⟨v0, t0, rfl, g0⟩ := fe_tI_d h
      obtain ⟨rfl, hz⟩ := fe_t0_d g0
      exact mX105_immediateB v0 M r hz
    exact fe_no h
  · intro i As M r h
    exact fe_no h
theorem eX49_branch (g0 : Nat → Nat → Int32 → FM → Option (Nat × FM)) (g26 : Nat → FM → Option (Nat × FM)) (g37 : Nat → FM → Option (Nat × FM)) (a0 : Nat) (a1 : Nat) (a2 : Int32) (M : FM) : dX49_branch g0 g26 g37 0 [(0, .ref a0), (1, .ref a1), (2, .int a2)] [] M = g0 a0 a1 a2 M := by rfl
theorem mX49_branch (a0 : Nat) (a1 : Nat) (a2 : Int32) (M : FM) (r : Nat × FM) (h : FX49_branch a0 a1 a2 M = some r) : fm_nx M ≤ fm_nx r.2 ∧ fm_ns M ≤ fm_ns r.2 :=
  fe_mono (L0 := [(0, .ref a0), (1, .ref a1), (2, .int a2)]) (vX49_branch) (by decide +kernel) (hX49_branch) (fe_ka_k r) 0 rfl ((eX49_branch FX49_branch_0 FX49_branch_26 FX49_branch_37 a0 a1 a2 M).trans h)
theorem zX49_branch {s0 : State} {H0 : Heap} {oa : Nat → Nat} {D : va_G} (K : fk s0 H0 oa D) (l : Launch) (a0 : Nat) (a1 : Nat) (a2 : Int32) (M : FM) (r : Nat × FM) (h : FX49_branch a0 a1 a2 M = some r) : fs_Con (fk_E s0 H0 oa D) l 3 ⟨"BoardMachine$Integers$Decoder", "branch", "(LBoardMachine$Integers$Decoded;I)LBoardMachine$Integers$Action;"⟩ prog_64_method_13_code 3 (Option.some (Jvm.ClassFile.FieldType.object "BoardMachine$Integers$Action")) [.ref a0, .ref a1, .int a2] M (some (.ref r.1)) r.2 := by
  have o0 : fs_OS (sX49_branch FX105_immediateB) 0 2 (fs_Con (fk_E s0 H0 oa D) l 2 ⟨"BoardMachine$Integers$Fields", "immediateB", "(I)J"⟩ prog_66_method_5_code 1 (Option.some Jvm.ClassFile.FieldType.long)) := by
    intro As M r h
    obtain ⟨v0, t0, rfl, g0⟩ := fe_tI_d h
    obtain ⟨rfl, hz⟩ := fe_t0_d g0
    exact zX105_immediateB K l v0 M r hz
  refine fs_method (own := "BoardMachine$Integers$Decoder") rfl (by decide) K.2.1 (by rw [fe_slen]; exact (Nat.le_of_ble_eq_true rfl)) (mX49_branch a0 a1 a2 M r h) (hX49_branch) 0 rfl (L0 := [(0, .ref a0), (1, .ref a1), (2, .int a2)]) (fun E => fe_args_e E [.ref a0, .ref a1, .int a2] 0) ((eX49_branch FX49_branch_0 FX49_branch_26 FX49_branch_37 a0 a1 a2 M).trans h) (fe_ka_k r) (fun H hR => fs_nr_o (by decide) (by decide)) ?_
  intro p e s m args below meth c Q C hnm
  have hw : s0.WarmedH s.vm := C.2.2.2.2.1
  refine fe_all C fk_hwr cX49_branch [2, 5, 8, 13, 27, 34] (by decide +kernel) (fe_fil (cps := [(2, 5, .getfield 629395700), (5, 8, .invokestatic 6), (8, 11, .putfield 646172917), (13, 16, .putfield 671338740), (27, 30, .getfield 675537146), (34, 37, .getfield 700702970)]) (by decide +kernel) ?_)
  refine fs_c1 (fs_getf (pc := 2) (n := 629395700) (idx := 148) (ref := "BoardMachine$Integers$Decoded") (O := "BoardMachine$Integers$Decoded") (name := "word") (desc := "I") C (by decide +kernel) (Or.inr ⟨_, kF K hw q3244⟩) (fun _ h => h) (Nat.le_of_ble_eq_true rfl) (Nat.le_of_ble_eq_true rfl) (fs_one (⟨_, ff_61_150 s0 H0 oa D⟩))) ?_
  refine fs_c1 (fs_inv_static (pc := 5) (n := 6) C (fs_lk_static (idx := 190) (y := ⟨"BoardMachine$Integers$Fields", "immediateB", "(I)J"⟩) (bytes := prog_66_method_5_code) (maxL := 1) (rt := (Option.some Jvm.ClassFile.FieldType.long)) (d := 2) C (by decide +kernel) (kw K hw q3342) (kw K hw q430) (kw K hw q3341) (Or.inl (kw K hw q3340)) ⟨by decide, by decide⟩ rfl (Nat.le_of_ble_eq_true rfl) (Nat.le_of_ble_eq_true rfl)) fs_con_mono o0) ?_
  refine fs_c1 (fs_putf (pc := 8) (n := 646172917) (idx := 144) (ref := "BoardMachine$Integers$Decoded") (O := "BoardMachine$Integers$Decoded") (name := "immediate") (desc := "J") (fin := false) (ty := .long) C (by decide +kernel) (Or.inl ⟨rfl, Or.inr ⟨_, kF K hw q3268⟩⟩) (fun _ h => h) (Nat.le_of_ble_eq_true rfl) (Nat.le_of_ble_eq_true rfl) (Nat.le_of_ble_eq_true rfl) rfl rfl (by decide) (fs_one (⟨rfl, ff_61_154 s0 H0 oa D⟩))) ?_
  refine fs_c1 (fs_putf (pc := 13) (n := 671338740) (idx := 175) (ref := "BoardMachine$Integers$Decoded") (O := "BoardMachine$Integers$Decoded") (name := "sort") (desc := "I") (fin := false) (ty := .int) C (by decide +kernel) (Or.inl ⟨rfl, Or.inr ⟨_, kF K hw q3285⟩⟩) (fun _ h => h) (Nat.le_of_ble_eq_true rfl) (Nat.le_of_ble_eq_true rfl) (Nat.le_of_ble_eq_true rfl) rfl rfl (by decide) (fs_one (⟨rfl, ff_61_160 s0 H0 oa D⟩))) ?_
  refine fs_c1 (fs_getf (pc := 27) (n := 675537146) (idx := 12) (ref := "BoardMachine$Integers$Decoder") (O := "BoardMachine$Integers$Decoder") (name := "illegal") (desc := "LBoardMachine$Integers$Action;") C (by decide +kernel) (Or.inl (kw K hw q1370)) (fun _ h => h) (Nat.le_of_ble_eq_true rfl) (Nat.le_of_ble_eq_true rfl) (fs_one (⟨_, ff_62_161 s0 H0 oa D⟩))) ?_
  refine fs_c1 (fs_getf (pc := 34) (n := 700702970) (idx := 47) (ref := "BoardMachine$Integers$Decoder") (O := "BoardMachine$Integers$Decoder") (name := "branch") (desc := "LBoardMachine$Integers$Action;") C (by decide +kernel) (Or.inl (kw K hw q1376)) (fun _ h => h) (Nat.le_of_ble_eq_true rfl) (Nat.le_of_ble_eq_true rfl) (fs_one (⟨_, ff_62_167 s0 H0 oa D⟩))) ?_
  exact fs_c0
theorem hX49_plain : fe_H (sX49_plain) cX49_plain [0] fe_ka [] 23 (fun _ => dX49_plain FX49_plain_0) := by
  intro j pc L st M r hc h
  rcases fe_mem_c hc with rfl | hc
  · obtain ⟨w0, m0, h⟩ := fe_lI_d h
    obtain ⟨rfl, hz⟩ := fe_t0_d h
    exact ⟨[(0, .int w0)], (fe_cs m0 fe_nl), Or.inr ((bX49_plain_0 FX49_plain_0 w0 M).symm.trans hz)⟩
  exact fe_mem_0 hc
theorem vX49_plain : fe_SB (sX49_plain) := by
  refine ⟨?_, ?_, ?_, ?_⟩
  · intro i As M r h
    exact fe_no h
  · intro i As M r h
    exact fe_no h
  · intro i As M r h
    exact fe_no h
  · intro i As M r h
    exact fe_no h
theorem eX49_plain (g0 : Int32 → FM → Option (Nat × FM)) (a0 : Int32) (M : FM) : dX49_plain g0 0 [(0, .int a0)] [] M = g0 a0 M := by rfl
theorem mX49_plain (a0 : Int32) (M : FM) (r : Nat × FM) (h : FX49_plain a0 M = some r) : fm_nx M ≤ fm_nx r.2 ∧ fm_ns M ≤ fm_ns r.2 :=
  fe_mono (L0 := [(0, .int a0)]) (vX49_plain) (by decide +kernel) (hX49_plain) (fe_ka_k r) 0 rfl ((eX49_plain FX49_plain_0 a0 M).trans h)
theorem zX49_plain {s0 : State} {H0 : Heap} {oa : Nat → Nat} {D : va_G} (K : fk s0 H0 oa D) (l : Launch) (a0 : Int32) (M : FM) (r : Nat × FM) (h : FX49_plain a0 M = some r) : fs_Con (fk_E s0 H0 oa D) l 1 ⟨"BoardMachine$Integers$Decoder", "plain", "(I)LBoardMachine$Integers$Sum;"⟩ prog_64_method_2_code 1 (Option.some (Jvm.ClassFile.FieldType.object "BoardMachine$Integers$Sum")) [.int a0] M (some (.ref r.1)) r.2 := by
  refine fs_method (own := "BoardMachine$Integers$Decoder") rfl (by decide) K.2.1 (by rw [fe_slen]; exact (Nat.le_of_ble_eq_true rfl)) (mX49_plain a0 M r h) (hX49_plain) 0 rfl (L0 := [(0, .int a0)]) (fun E => fe_args_e E [.int a0] 0) ((eX49_plain FX49_plain_0 a0 M).trans h) (fe_ka_k r) (fun H hR => fs_nr_o (by decide) (by decide)) ?_
  intro p e s m args below meth c Q C hnm
  have hw : s0.WarmedH s.vm := C.2.2.2.2.1
  refine fe_all C fk_hwr cX49_plain [1, 44, 48, 52, 56, 60, 64, 68, 72] (by decide +kernel) (fe_fil (cps := [(1, 44, .lookupswitch (71) #[(0, 43), (1, 47), (2, 51), (3, 55), (4, 59), (5, 63), (6, 67)]), (44, 47, .getstatic 15), (48, 51, .getstatic 17), (52, 55, .getstatic 18), (56, 59, .getstatic 19), (60, 63, .getstatic 20), (64, 67, .getstatic 21), (68, 71, .getstatic 23), (72, 75, .getstatic 24)]) (by decide +kernel) ?_)
  refine fs_c1 (fs_tswl (pc := 1) (nx := 44) (d := 71) (lo := 0) (hi := 6) (offs := #[43, 47, 51, 55, 59, 63, 67]) C (by decide +kernel) (by decide +kernel)) ?_
  refine fs_c1 (fs_getst (pc := 44) (idx := 68) (k := 15) (CC := "BoardMachine$Integers$Sum") (n := "ADD") (d := "LBoardMachine$Integers$Sum;") (ref := "BoardMachine$Integers$Sum") C (by decide +kernel) (kw K hw q3350) (fun _ h => h) (by decide) (kZ K 15 ez_15)) ?_
  refine fs_c1 (fs_getst (pc := 48) (idx := 74) (k := 17) (CC := "BoardMachine$Integers$Sum") (n := "LEFT") (d := "LBoardMachine$Integers$Sum;") (ref := "BoardMachine$Integers$Sum") C (by decide +kernel) (kw K hw q3352) (fun _ h => h) (by decide) (kZ K 17 ez_17)) ?_
  refine fs_c1 (fs_getst (pc := 52) (idx := 77) (k := 18) (CC := "BoardMachine$Integers$Sum") (n := "LESS") (d := "LBoardMachine$Integers$Sum;") (ref := "BoardMachine$Integers$Sum") C (by decide +kernel) (kw K hw q3354) (fun _ h => h) (by decide) (kZ K 18 ez_18)) ?_
  refine fs_c1 (fs_getst (pc := 56) (idx := 80) (k := 19) (CC := "BoardMachine$Integers$Sum") (n := "BELOW") (d := "LBoardMachine$Integers$Sum;") (ref := "BoardMachine$Integers$Sum") C (by decide +kernel) (kw K hw q3356) (fun _ h => h) (by decide) (kZ K 19 ez_19)) ?_
  refine fs_c1 (fs_getst (pc := 60) (idx := 83) (k := 20) (CC := "BoardMachine$Integers$Sum") (n := "XOR") (d := "LBoardMachine$Integers$Sum;") (ref := "BoardMachine$Integers$Sum") C (by decide +kernel) (kw K hw q3358) (fun _ h => h) (by decide) (kZ K 20 ez_20)) ?_
  refine fs_c1 (fs_getst (pc := 64) (idx := 86) (k := 21) (CC := "BoardMachine$Integers$Sum") (n := "RIGHT") (d := "LBoardMachine$Integers$Sum;") (ref := "BoardMachine$Integers$Sum") C (by decide +kernel) (kw K hw q3360) (fun _ h => h) (by decide) (kZ K 21 ez_21)) ?_
  refine fs_c1 (fs_getst (pc := 68) (idx := 89) (k := 23) (CC := "BoardMachine$Integers$Sum") (n := "OR") (d := "LBoardMachine$Integers$Sum;") (ref := "BoardMachine$Integers$Sum") C (by decide +kernel) (kw K hw q3362) (fun _ h => h) (by decide) (kZ K 23 ez_23)) ?_
  refine fs_c1 (fs_getst (pc := 72) (idx := 92) (k := 24) (CC := "BoardMachine$Integers$Sum") (n := "AND") (d := "LBoardMachine$Integers$Sum;") (ref := "BoardMachine$Integers$Sum") C (by decide +kernel) (kw K hw q3364) (fun _ h => h) (by decide) (kZ K 24 ez_24)) ?_
  exact fs_c0
theorem hX105_immediateI : fe_H (sX105_immediateI) cX105_immediateI [0] fe_kl [] 20 (fun _ => dX105_immediateI FX105_immediateI_0) := by
  intro j pc L st M r hc h
  rcases fe_mem_c hc with rfl | hc
  · obtain ⟨w0, m0, h⟩ := fe_lI_d h
    obtain ⟨rfl, hz⟩ := fe_t0_d h
    exact ⟨[(0, .int w0)], (fe_cs m0 fe_nl), Or.inr ((bX105_immediateI_0 FX105_immediateI_0 w0 M).symm.trans hz)⟩
  exact fe_mem_0 hc
theorem vX105_immediateI : fe_SB (sX105_immediateI) := by
  refine ⟨?_, ?_, ?_, ?_⟩
  · intro i As M r h
    exact fe_no h
  · intro i As M r h
    exact fe_no h
  · intro i As M r h
    exact fe_no h
  · intro i As M r h
    exact fe_no h
theorem eX105_immediateI (g0 : Int32 → FM → Option (Int64 × FM)) (a0 : Int32) (M : FM) : dX105_immediateI g0 0 [(0, .int a0)] [] M = g0 a0 M := by rfl
theorem mX105_immediateI (a0 : Int32) (M : FM) (r : Int64 × FM) (h : FX105_immediateI a0 M = some r) : fm_nx M ≤ fm_nx r.2 ∧ fm_ns M ≤ fm_ns r.2 :=
  fe_mono (L0 := [(0, .int a0)]) (vX105_immediateI) (by decide +kernel) (hX105_immediateI) (fe_kl_k r) 0 rfl ((eX105_immediateI FX105_immediateI_0 a0 M).trans h)
theorem zX105_immediateI {s0 : State} {H0 : Heap} {oa : Nat → Nat} {D : va_G} (K : fk s0 H0 oa D) (l : Launch) (a0 : Int32) (M : FM) (r : Int64 × FM) (h : FX105_immediateI a0 M = some r) : fs_Con (fk_E s0 H0 oa D) l 1 ⟨"BoardMachine$Integers$Fields", "immediateI", "(I)J"⟩ prog_66_method_3_code 1 (Option.some Jvm.ClassFile.FieldType.long) [.int a0] M (some (.long r.1)) r.2 := by
  refine fs_method (own := "BoardMachine$Integers$Fields") rfl (by decide) K.2.1 (by rw [fe_slen]; exact (Nat.le_of_ble_eq_true rfl)) (mX105_immediateI a0 M r h) (hX105_immediateI) 0 rfl (L0 := [(0, .int a0)]) (fun E => fe_args_e E [.int a0] 0) ((eX105_immediateI FX105_immediateI_0 a0 M).trans h) (fe_kl_k r) (fun H hR => fs_nr_o (by decide) (by decide)) ?_
  intro p e s m args below meth c Q C hnm
  have hw : s0.WarmedH s.vm := C.2.2.2.2.1
  refine fe_all C fk_hwr cX105_immediateI [] (by decide +kernel) (fe_fil (cps := []) (by decide +kernel) ?_)
  exact fs_c0
theorem hX49_compute : fe_H (sX49_compute) cX49_compute [0, 37] fe_ka [] 25 (fun _ => dX49_compute FX49_compute_0 FX49_compute_37) := by
  intro j pc L st M r hc h
  rcases fe_mem_c hc with rfl | hc
  · obtain ⟨w0, m0, h⟩ := fe_lR_d h
    obtain ⟨w1, m1, h⟩ := fe_lR_d h
    obtain ⟨w2, m2, h⟩ := fe_lR_d h
    obtain ⟨w3, m3, h⟩ := fe_lI_d h
    obtain ⟨w4, m4, h⟩ := fe_lI_d h
    obtain ⟨w5, m5, h⟩ := fe_lL_d h
    obtain ⟨rfl, hz⟩ := fe_t0_d h
    exact ⟨[(0, .ref w0), (1, .ref w1), (2, .ref w2), (3, .int w3), (4, .int w4), (5, .long w5)], (fe_cs m0 (fe_cs m1 (fe_cs m2 (fe_cs m3 (fe_cs m4 (fe_cs m5 fe_nl)))))), Or.inr ((bX49_compute_0 FX49_compute_0 FX49_compute_37 w0 w1 w2 w3 w4 w5 M).symm.trans hz)⟩
  rcases fe_mem_c hc with rfl | hc
  · obtain ⟨s0, t0, rfl, g0⟩ := fe_tR_d h
    obtain ⟨rfl, hz⟩ := fe_t0_d g0
    exact ⟨[], fe_nl, Or.inr ((bX49_compute_37 FX49_compute_0 FX49_compute_37 s0 M).symm.trans hz)⟩
  exact fe_mem_0 hc
theorem vX49_compute : fe_SB (sX49_compute) := by
  refine ⟨?_, ?_, ?_, ?_⟩
  · intro i As M r h
    exact fe_no h
  · intro i As M r h
    exact fe_no h
  · intro i As M r h
    exact fe_no h
  · intro i As M r h
    exact fe_no h
theorem eX49_compute (g0 : Nat → Nat → Nat → Int32 → Int32 → Int64 → FM → Option (Nat × FM)) (g37 : Nat → FM → Option (Nat × FM)) (a0 : Nat) (a1 : Nat) (a2 : Nat) (a3 : Int32) (a4 : Int32) (a5 : Int64) (M : FM) : dX49_compute g0 g37 0 [(0, .ref a0), (1, .ref a1), (2, .ref a2), (3, .int a3), (4, .int a4), (5, .long a5)] [] M = g0 a0 a1 a2 a3 a4 a5 M := by rfl
theorem mX49_compute (a0 : Nat) (a1 : Nat) (a2 : Nat) (a3 : Int32) (a4 : Int32) (a5 : Int64) (M : FM) (r : Nat × FM) (h : FX49_compute a0 a1 a2 a3 a4 a5 M = some r) : fm_nx M ≤ fm_nx r.2 ∧ fm_ns M ≤ fm_ns r.2 :=
  fe_mono (L0 := [(0, .ref a0), (1, .ref a1), (2, .ref a2), (3, .int a3), (4, .int a4), (5, .long a5)]) (vX49_compute) (by decide +kernel) (hX49_compute) (fe_ka_k r) 0 rfl ((eX49_compute FX49_compute_0 FX49_compute_37 a0 a1 a2 a3 a4 a5 M).trans h)
theorem zX49_compute {s0 : State} {H0 : Heap} {oa : Nat → Nat} {D : va_G} (K : fk s0 H0 oa D) (l : Launch) (a0 : Nat) (a1 : Nat) (a2 : Nat) (a3 : Int32) (a4 : Int32) (a5 : Int64) (M : FM) (r : Nat × FM) (h : FX49_compute a0 a1 a2 a3 a4 a5 M = some r) : fs_Con (fk_E s0 H0 oa D) l 1 ⟨"BoardMachine$Integers$Decoder", "compute", "(LBoardMachine$Integers$Decoded;LBoardMachine$Integers$Sum;ZZJ)LBoardMachine$Integers$Action;"⟩ prog_64_method_5_code 7 (Option.some (Jvm.ClassFile.FieldType.object "BoardMachine$Integers$Action")) [.ref a0, .ref a1, .ref a2, .int a3, .int a4, .long a5] M (some (.ref r.1)) r.2 := by
  refine fs_method (own := "BoardMachine$Integers$Decoder") rfl (by decide) K.2.1 (by rw [fe_slen]; exact (Nat.le_of_ble_eq_true rfl)) (mX49_compute a0 a1 a2 a3 a4 a5 M r h) (hX49_compute) 0 rfl (L0 := [(0, .ref a0), (1, .ref a1), (2, .ref a2), (3, .int a3), (4, .int a4), (5, .long a5)]) (fun E => fe_args_e E [.ref a0, .ref a1, .ref a2, .int a3, .int a4, .long a5] 0) ((eX49_compute FX49_compute_0 FX49_compute_37 a0 a1 a2 a3 a4 a5 M).trans h) (fe_ka_k r) (fun H hR => fs_nr_o (by decide) (by decide)) ?_
  intro p e s m args below meth c Q C hnm
  have hw : s0.WarmedH s.vm := C.2.2.2.2.1
  refine fe_all C fk_hwr cX49_compute [2, 7, 13, 19, 27, 34] (by decide +kernel) (fe_fil (cps := [(2, 5, .putfield 650367222), (7, 10, .putfield 654561527), (13, 16, .putfield 658755831), (19, 22, .putfield 646172917), (27, 30, .getfield 675537146), (34, 37, .getfield 704897274)]) (by decide +kernel) ?_)
  refine fs_c1 (fs_putf (pc := 2) (n := 650367222) (idx := 132) (ref := "BoardMachine$Integers$Decoded") (O := "BoardMachine$Integers$Decoded") (name := "sum") (desc := "LBoardMachine$Integers$Sum;") (fin := false) (ty := (.object "BoardMachine$Integers$Sum")) C (by decide +kernel) (Or.inl ⟨rfl, Or.inr ⟨_, kF K hw q3270⟩⟩) (fun _ h => h) (Nat.le_of_ble_eq_true rfl) (Nat.le_of_ble_eq_true rfl) (Nat.le_of_ble_eq_true rfl) rfl rfl (by decide) (fs_one (⟨rfl, ff_61_155 s0 H0 oa D⟩))) ?_
  refine fs_c1 (fs_putf (pc := 7) (n := 654561527) (idx := 137) (ref := "BoardMachine$Integers$Decoded") (O := "BoardMachine$Integers$Decoded") (name := "ofRegisters") (desc := "Z") (fin := false) (ty := .boolean) C (by decide +kernel) (Or.inl ⟨rfl, Or.inr ⟨_, kF K hw q3273⟩⟩) (fun _ h => h) (Nat.le_of_ble_eq_true rfl) (Nat.le_of_ble_eq_true rfl) (Nat.le_of_ble_eq_true rfl) rfl rfl (by decide) (fs_one (⟨rfl, ff_61_156 s0 H0 oa D⟩))) ?_
  refine fs_c1 (fs_putf (pc := 13) (n := 658755831) (idx := 141) (ref := "BoardMachine$Integers$Decoded") (O := "BoardMachine$Integers$Decoded") (name := "ofInts") (desc := "Z") (fin := false) (ty := .boolean) C (by decide +kernel) (Or.inl ⟨rfl, Or.inr ⟨_, kF K hw q3275⟩⟩) (fun _ h => h) (Nat.le_of_ble_eq_true rfl) (Nat.le_of_ble_eq_true rfl) (Nat.le_of_ble_eq_true rfl) rfl rfl (by decide) (fs_one (⟨rfl, ff_61_157 s0 H0 oa D⟩))) ?_
  refine fs_c1 (fs_putf (pc := 19) (n := 646172917) (idx := 144) (ref := "BoardMachine$Integers$Decoded") (O := "BoardMachine$Integers$Decoded") (name := "immediate") (desc := "J") (fin := false) (ty := .long) C (by decide +kernel) (Or.inl ⟨rfl, Or.inr ⟨_, kF K hw q3268⟩⟩) (fun _ h => h) (Nat.le_of_ble_eq_true rfl) (Nat.le_of_ble_eq_true rfl) (Nat.le_of_ble_eq_true rfl) rfl rfl (by decide) (fs_one (⟨rfl, ff_61_154 s0 H0 oa D⟩))) ?_
  refine fs_c1 (fs_getf (pc := 27) (n := 675537146) (idx := 12) (ref := "BoardMachine$Integers$Decoder") (O := "BoardMachine$Integers$Decoder") (name := "illegal") (desc := "LBoardMachine$Integers$Action;") C (by decide +kernel) (Or.inl (kw K hw q1370)) (fun _ h => h) (Nat.le_of_ble_eq_true rfl) (Nat.le_of_ble_eq_true rfl) (fs_one (⟨_, ff_62_161 s0 H0 oa D⟩))) ?_
  refine fs_c1 (fs_getf (pc := 34) (n := 704897274) (idx := 53) (ref := "BoardMachine$Integers$Decoder") (O := "BoardMachine$Integers$Decoder") (name := "compute") (desc := "LBoardMachine$Integers$Action;") C (by decide +kernel) (Or.inl (kw K hw q1377)) (fun _ h => h) (Nat.le_of_ble_eq_true rfl) (Nat.le_of_ble_eq_true rfl) (fs_one (⟨_, ff_62_168 s0 H0 oa D⟩))) ?_
  exact fs_c0
theorem hX49_product : fe_H (sX49_product) cX49_product [0] fe_ka [] 23 (fun _ => dX49_product FX49_product_0) := by
  intro j pc L st M r hc h
  rcases fe_mem_c hc with rfl | hc
  · obtain ⟨w0, m0, h⟩ := fe_lI_d h
    obtain ⟨rfl, hz⟩ := fe_t0_d h
    exact ⟨[(0, .int w0)], (fe_cs m0 fe_nl), Or.inr ((bX49_product_0 FX49_product_0 w0 M).symm.trans hz)⟩
  exact fe_mem_0 hc
theorem vX49_product : fe_SB (sX49_product) := by
  refine ⟨?_, ?_, ?_, ?_⟩
  · intro i As M r h
    exact fe_no h
  · intro i As M r h
    exact fe_no h
  · intro i As M r h
    exact fe_no h
  · intro i As M r h
    exact fe_no h
theorem eX49_product (g0 : Int32 → FM → Option (Nat × FM)) (a0 : Int32) (M : FM) : dX49_product g0 0 [(0, .int a0)] [] M = g0 a0 M := by rfl
theorem mX49_product (a0 : Int32) (M : FM) (r : Nat × FM) (h : FX49_product a0 M = some r) : fm_nx M ≤ fm_nx r.2 ∧ fm_ns M ≤ fm_ns r.2 :=
  fe_mono (L0 := [(0, .int a0)]) (vX49_product) (by decide +kernel) (hX49_product) (fe_ka_k r) 0 rfl ((eX49_product FX49_product_0 a0 M).trans h)
theorem zX49_product {s0 : State} {H0 : Heap} {oa : Nat → Nat} {D : va_G} (K : fk s0 H0 oa D) (l : Launch) (a0 : Int32) (M : FM) (r : Nat × FM) (h : FX49_product a0 M = some r) : fs_Con (fk_E s0 H0 oa D) l 1 ⟨"BoardMachine$Integers$Decoder", "product", "(I)LBoardMachine$Integers$Sum;"⟩ prog_64_method_3_code 1 (Option.some (Jvm.ClassFile.FieldType.object "BoardMachine$Integers$Sum")) [.int a0] M (some (.ref r.1)) r.2 := by
  refine fs_method (own := "BoardMachine$Integers$Decoder") rfl (by decide) K.2.1 (by rw [fe_slen]; exact (Nat.le_of_ble_eq_true rfl)) (mX49_product a0 M r h) (hX49_product) 0 rfl (L0 := [(0, .int a0)]) (fun E => fe_args_e E [.int a0] 0) ((eX49_product FX49_product_0 a0 M).trans h) (fe_ka_k r) (fun H hR => fs_nr_o (by decide) (by decide)) ?_
  intro p e s m args below meth c Q C hnm
  have hw : s0.WarmedH s.vm := C.2.2.2.2.1
  refine fe_all C fk_hwr cX49_product [1, 44, 48, 52, 56, 60, 64, 68, 72] (by decide +kernel) (fe_fil (cps := [(1, 44, .lookupswitch (71) #[(0, 43), (1, 47), (2, 51), (3, 55), (4, 59), (5, 63), (6, 67)]), (44, 47, .getstatic 25), (48, 51, .getstatic 26), (52, 55, .getstatic 27), (56, 59, .getstatic 28), (60, 63, .getstatic 29), (64, 67, .getstatic 30), (68, 71, .getstatic 31), (72, 75, .getstatic 32)]) (by decide +kernel) ?_)
  refine fs_c1 (fs_tswl (pc := 1) (nx := 44) (d := 71) (lo := 0) (hi := 6) (offs := #[43, 47, 51, 55, 59, 63, 67]) C (by decide +kernel) (by decide +kernel)) ?_
  refine fs_c1 (fs_getst (pc := 44) (idx := 95) (k := 25) (CC := "BoardMachine$Integers$Sum") (n := "TIMES") (d := "LBoardMachine$Integers$Sum;") (ref := "BoardMachine$Integers$Sum") C (by decide +kernel) (kw K hw q3376) (fun _ h => h) (by decide) (kZ K 25 ez_25)) ?_
  refine fs_c1 (fs_getst (pc := 48) (idx := 98) (k := 26) (CC := "BoardMachine$Integers$Sum") (n := "UPPER") (d := "LBoardMachine$Integers$Sum;") (ref := "BoardMachine$Integers$Sum") C (by decide +kernel) (kw K hw q3378) (fun _ h => h) (by decide) (kZ K 26 ez_26)) ?_
  refine fs_c1 (fs_getst (pc := 52) (idx := 101) (k := 27) (CC := "BoardMachine$Integers$Sum") (n := "UPPER_MIXED") (d := "LBoardMachine$Integers$Sum;") (ref := "BoardMachine$Integers$Sum") C (by decide +kernel) (kw K hw q3380) (fun _ h => h) (by decide) (kZ K 27 ez_27)) ?_
  refine fs_c1 (fs_getst (pc := 56) (idx := 104) (k := 28) (CC := "BoardMachine$Integers$Sum") (n := "UPPER_UNSIGNED") (d := "LBoardMachine$Integers$Sum;") (ref := "BoardMachine$Integers$Sum") C (by decide +kernel) (kw K hw q3382) (fun _ h => h) (by decide) (kZ K 28 ez_28)) ?_
  refine fs_c1 (fs_getst (pc := 60) (idx := 107) (k := 29) (CC := "BoardMachine$Integers$Sum") (n := "DIVIDE") (d := "LBoardMachine$Integers$Sum;") (ref := "BoardMachine$Integers$Sum") C (by decide +kernel) (kw K hw q3384) (fun _ h => h) (by decide) (kZ K 29 ez_29)) ?_
  refine fs_c1 (fs_getst (pc := 64) (idx := 110) (k := 30) (CC := "BoardMachine$Integers$Sum") (n := "DIVIDE_UNSIGNED") (d := "LBoardMachine$Integers$Sum;") (ref := "BoardMachine$Integers$Sum") C (by decide +kernel) (kw K hw q3386) (fun _ h => h) (by decide) (kZ K 30 ez_30)) ?_
  refine fs_c1 (fs_getst (pc := 68) (idx := 113) (k := 31) (CC := "BoardMachine$Integers$Sum") (n := "REST") (d := "LBoardMachine$Integers$Sum;") (ref := "BoardMachine$Integers$Sum") C (by decide +kernel) (kw K hw q3388) (fun _ h => h) (by decide) (kZ K 31 ez_31)) ?_
  refine fs_c1 (fs_getst (pc := 72) (idx := 116) (k := 32) (CC := "BoardMachine$Integers$Sum") (n := "REST_UNSIGNED") (d := "LBoardMachine$Integers$Sum;") (ref := "BoardMachine$Integers$Sum") C (by decide +kernel) (kw K hw q3390) (fun _ h => h) (by decide) (kZ K 32 ez_32)) ?_
  exact fs_c0
theorem hX49_byField : fe_H (sX49_byField FX49_plain FX49_product) cX49_byField [0, 35, 52, 53] fe_ka [] 33 (fun _ => dX49_byField FX49_byField_0 FX49_byField_35 FX49_byField_52 FX49_byField_53) := by
  intro j pc L st M r hc h
  rcases fe_mem_c hc with rfl | hc
  · obtain ⟨w0, m0, h⟩ := fe_lI_d h
    obtain ⟨w1, m1, h⟩ := fe_lI_d h
    obtain ⟨rfl, hz⟩ := fe_t0_d h
    exact ⟨[(0, .int w0), (1, .int w1)], (fe_cs m0 (fe_cs m1 fe_nl)), Or.inr ((bX49_byField_0 FX49_plain FX49_product FX49_byField_0 FX49_byField_35 FX49_byField_52 FX49_byField_53 w0 w1 M).symm.trans hz)⟩
  rcases fe_mem_c hc with rfl | hc
  · obtain ⟨w0, m0, h⟩ := fe_lI_d h
    obtain ⟨w1, m1, h⟩ := fe_lI_d h
    obtain ⟨rfl, hz⟩ := fe_t0_d h
    exact ⟨[(0, .int w0), (1, .int w1)], (fe_cs m0 (fe_cs m1 fe_nl)), Or.inr ((bX49_byField_35 FX49_plain FX49_product FX49_byField_0 FX49_byField_35 FX49_byField_52 FX49_byField_53 w0 w1 M).symm.trans hz)⟩
  rcases fe_mem_c hc with rfl | hc
  · obtain ⟨rfl, hz⟩ := fe_t0_d h
    exact ⟨[], fe_nl, Or.inr ((bX49_byField_52 FX49_plain FX49_product FX49_byField_0 FX49_byField_35 FX49_byField_52 FX49_byField_53 M).symm.trans hz)⟩
  rcases fe_mem_c hc with rfl | hc
  · obtain ⟨s0, t0, rfl, g0⟩ := fe_tR_d h
    obtain ⟨rfl, hz⟩ := fe_t0_d g0
    exact ⟨[], fe_nl, Or.inr ((bX49_byField_53 FX49_plain FX49_product FX49_byField_0 FX49_byField_35 FX49_byField_52 FX49_byField_53 s0 M).symm.trans hz)⟩
  exact fe_mem_0 hc
theorem vX49_byField : fe_SB (sX49_byField FX49_plain FX49_product) := by
  refine ⟨?_, ?_, ?_, ?_⟩
  · intro i As M r h
    exact fe_no h
  · intro i As M r h
    exact fe_no h
  · intro i As M r h
    exact fe_no h
  · intro i As M r h
    rcases fe_bc h with h | h
    · obtain ⟨v0, t0, rfl, g0⟩ := fe_tI_d h
      obtain ⟨rfl, hz⟩ := fe_t0_d g0
      exact mX49_plain v0 M r hz
    rcases fe_bc h with h | h
    · obtain ⟨v0, t0, rfl, g0⟩ := fe_tI_d h
      obtain ⟨rfl, hz⟩ := fe_t0_d g0
      exact mX49_product v0 M r hz
    exact fe_no h
theorem eX49_byField (g0 : Int32 → Int32 → FM → Option (Nat × FM)) (g35 : Int32 → Int32 → FM → Option (Nat × FM)) (g52 : FM → Option (Nat × FM)) (g53 : Nat → FM → Option (Nat × FM)) (a0 : Int32) (a1 : Int32) (M : FM) : dX49_byField g0 g35 g52 g53 0 [(0, .int a0), (1, .int a1)] [] M = g0 a0 a1 M := by rfl
theorem mX49_byField (a0 : Int32) (a1 : Int32) (M : FM) (r : Nat × FM) (h : FX49_byField a0 a1 M = some r) : fm_nx M ≤ fm_nx r.2 ∧ fm_ns M ≤ fm_ns r.2 :=
  fe_mono (L0 := [(0, .int a0), (1, .int a1)]) (vX49_byField) (by decide +kernel) (hX49_byField) (fe_ka_k r) 0 rfl ((eX49_byField FX49_byField_0 FX49_byField_35 FX49_byField_52 FX49_byField_53 a0 a1 M).trans h)
theorem zX49_byField {s0 : State} {H0 : Heap} {oa : Nat → Nat} {D : va_G} (K : fk s0 H0 oa D) (l : Launch) (a0 : Int32) (a1 : Int32) (M : FM) (r : Nat × FM) (h : FX49_byField a0 a1 M = some r) : fs_Con (fk_E s0 H0 oa D) l 2 ⟨"BoardMachine$Integers$Decoder", "byField", "(II)LBoardMachine$Integers$Sum;"⟩ prog_64_method_4_code 2 (Option.some (Jvm.ClassFile.FieldType.object "BoardMachine$Integers$Sum")) [.int a0, .int a1] M (some (.ref r.1)) r.2 := by
  have o0 : fs_OS (sX49_byField FX49_plain FX49_product) 0 3 (fs_Con (fk_E s0 H0 oa D) l 1 ⟨"BoardMachine$Integers$Decoder", "plain", "(I)LBoardMachine$Integers$Sum;"⟩ prog_64_method_2_code 1 (Option.some (Jvm.ClassFile.FieldType.object "BoardMachine$Integers$Sum"))) := by
    intro As M r h
    obtain ⟨v0, t0, rfl, g0⟩ := fe_tI_d h
    obtain ⟨rfl, hz⟩ := fe_t0_d g0
    exact zX49_plain K l v0 M r hz
  have o1 : fs_OS (sX49_byField FX49_plain FX49_product) 1 3 (fs_Con (fk_E s0 H0 oa D) l 1 ⟨"BoardMachine$Integers$Decoder", "product", "(I)LBoardMachine$Integers$Sum;"⟩ prog_64_method_3_code 1 (Option.some (Jvm.ClassFile.FieldType.object "BoardMachine$Integers$Sum"))) := by
    intro As M r h
    obtain ⟨v0, t0, rfl, g0⟩ := fe_tI_d h
    obtain ⟨rfl, hz⟩ := fe_t0_d g0
    exact zX49_product K l v0 M r hz
  refine fs_method (own := "BoardMachine$Integers$Decoder") rfl (by decide) K.2.1 (by rw [fe_slen]; exact (Nat.le_of_ble_eq_true rfl)) (mX49_byField a0 a1 M r h) (hX49_byField) 0 rfl (L0 := [(0, .int a0), (1, .int a1)]) (fun E => fe_args_e E [.int a0, .int a1] 0) ((eX49_byField FX49_byField_0 FX49_byField_35 FX49_byField_52 FX49_byField_53 a0 a1 M).trans h) (fe_ka_k r) (fun H hR => fs_nr_o (by decide) (by decide)) ?_
  intro p e s m args below meth c Q C hnm
  have hw : s0.WarmedH s.vm := C.2.2.2.2.1
  refine fe_all C fk_hwr cX49_byField [5, 15, 29, 46] (by decide +kernel) (fe_fil (cps := [(5, 8, .invokestatic 7), (15, 18, .invokestatic 71), (29, 32, .getstatic 16), (46, 49, .getstatic 22)]) (by decide +kernel) ?_)
  refine fs_c1 (fs_inv_static (pc := 5) (n := 7) C (fs_lk_static (idx := 119) (y := ⟨"BoardMachine$Integers$Decoder", "plain", "(I)LBoardMachine$Integers$Sum;"⟩) (bytes := prog_64_method_2_code) (maxL := 1) (rt := (Option.some (Jvm.ClassFile.FieldType.object "BoardMachine$Integers$Sum"))) (d := 1) C (by decide +kernel) (kw K hw q3349) (kw K hw q360) (kw K hw q3348) (Or.inl (kw K hw q3347)) ⟨by decide, by decide⟩ rfl (Nat.le_of_ble_eq_true rfl) (Nat.le_of_ble_eq_true rfl)) fs_con_mono o0) ?_
  refine fs_c1 (fs_inv_static (pc := 15) (n := 71) C (fs_lk_static (idx := 123) (y := ⟨"BoardMachine$Integers$Decoder", "product", "(I)LBoardMachine$Integers$Sum;"⟩) (bytes := prog_64_method_3_code) (maxL := 1) (rt := (Option.some (Jvm.ClassFile.FieldType.object "BoardMachine$Integers$Sum"))) (d := 1) C (by decide +kernel) (kw K hw q3375) (kw K hw q360) (kw K hw q3374) (Or.inl (kw K hw q3373)) ⟨by decide, by decide⟩ rfl (Nat.le_of_ble_eq_true rfl) (Nat.le_of_ble_eq_true rfl)) fs_con_mono o1) ?_
  refine fs_c1 (fs_getst (pc := 29) (idx := 126) (k := 16) (CC := "BoardMachine$Integers$Sum") (n := "SUBTRACT") (d := "LBoardMachine$Integers$Sum;") (ref := "BoardMachine$Integers$Sum") C (by decide +kernel) (kw K hw q3392) (fun _ h => h) (by decide) (kZ K 16 ez_16)) ?_
  refine fs_c1 (fs_getst (pc := 46) (idx := 129) (k := 22) (CC := "BoardMachine$Integers$Sum") (n := "ARITHMETIC") (d := "LBoardMachine$Integers$Sum;") (ref := "BoardMachine$Integers$Sum") C (by decide +kernel) (kw K hw q3394) (fun _ h => h) (by decide) (kZ K 22 ez_22)) ?_
  exact fs_c0
theorem hX49_immediate : fe_H (sX49_immediate FX49_plain FX105_bits FX105_immediateI FX49_compute FX49_byField) cX49_immediate [0, 16, 21, 42, 46, 84, 103, 107, 108, 127, 156] fe_ka [] 88 (fun _ => dX49_immediate FX49_immediate_0 FX49_immediate_16 FX49_immediate_21 FX49_immediate_42 FX49_immediate_46 FX49_immediate_84 FX49_immediate_103 FX49_immediate_107 FX49_immediate_108 FX49_immediate_127 FX49_immediate_156) := by
  intro j pc L st M r hc h
  rcases fe_mem_c hc with rfl | hc
  · obtain ⟨w0, m0, h⟩ := fe_lR_d h
    obtain ⟨w1, m1, h⟩ := fe_lR_d h
    obtain ⟨w2, m2, h⟩ := fe_lI_d h
    obtain ⟨w3, m3, h⟩ := fe_lI_d h
    obtain ⟨rfl, hz⟩ := fe_t0_d h
    exact ⟨[(0, .ref w0), (1, .ref w1), (2, .int w2), (3, .int w3)], (fe_cs m0 (fe_cs m1 (fe_cs m2 (fe_cs m3 fe_nl)))), Or.inr ((bX49_immediate_0 FX49_plain FX105_bits FX105_immediateI FX49_compute FX49_byField FX49_immediate_0 FX49_immediate_16 FX49_immediate_21 FX49_immediate_42 FX49_immediate_46 FX49_immediate_84 FX49_immediate_103 FX49_immediate_107 FX49_immediate_108 FX49_immediate_127 FX49_immediate_156 w0 w1 w2 w3 M).symm.trans hz)⟩
  rcases fe_mem_c hc with rfl | hc
  · obtain ⟨w0, m0, h⟩ := fe_lR_d h
    obtain ⟨w1, m1, h⟩ := fe_lR_d h
    obtain ⟨w2, m2, h⟩ := fe_lI_d h
    obtain ⟨w3, m3, h⟩ := fe_lI_d h
    obtain ⟨w4, m4, h⟩ := fe_lI_d h
    obtain ⟨rfl, hz⟩ := fe_t0_d h
    exact ⟨[(0, .ref w0), (1, .ref w1), (2, .int w2), (3, .int w3), (4, .int w4)], (fe_cs m0 (fe_cs m1 (fe_cs m2 (fe_cs m3 (fe_cs m4 fe_nl))))), Or.inr ((bX49_immediate_16 FX49_plain FX105_bits FX105_immediateI FX49_compute FX49_byField FX49_immediate_0 FX49_immediate_16 FX49_immediate_21 FX49_immediate_42 FX49_immediate_46 FX49_immediate_84 FX49_immediate_103 FX49_immediate_107 FX49_immediate_108 FX49_immediate_127 FX49_immediate_156 w0 w1 w2 w3 w4 M).symm.trans hz)⟩
  rcases fe_mem_c hc with rfl | hc
  · obtain ⟨w0, m0, h⟩ := fe_lR_d h
    obtain ⟨w1, m1, h⟩ := fe_lR_d h
    obtain ⟨w2, m2, h⟩ := fe_lI_d h
    obtain ⟨w3, m3, h⟩ := fe_lI_d h
    obtain ⟨w4, m4, h⟩ := fe_lI_d h
    obtain ⟨s0, t0, rfl, g0⟩ := fe_tI_d h
    obtain ⟨rfl, hz⟩ := fe_t0_d g0
    exact ⟨[(0, .ref w0), (1, .ref w1), (2, .int w2), (3, .int w3), (4, .int w4)], (fe_cs m0 (fe_cs m1 (fe_cs m2 (fe_cs m3 (fe_cs m4 fe_nl))))), Or.inr ((bX49_immediate_21 FX49_plain FX105_bits FX105_immediateI FX49_compute FX49_byField FX49_immediate_0 FX49_immediate_16 FX49_immediate_21 FX49_immediate_42 FX49_immediate_46 FX49_immediate_84 FX49_immediate_103 FX49_immediate_107 FX49_immediate_108 FX49_immediate_127 FX49_immediate_156 w0 w1 w2 w3 w4 s0 M).symm.trans hz)⟩
  rcases fe_mem_c hc with rfl | hc
  · obtain ⟨w2, m2, h⟩ := fe_lI_d h
    obtain ⟨w3, m3, h⟩ := fe_lI_d h
    obtain ⟨w4, m4, h⟩ := fe_lI_d h
    obtain ⟨s1, t1, rfl, g1⟩ := fe_tR_d h
    obtain ⟨s0, t0, rfl, g0⟩ := fe_tR_d g1
    obtain ⟨rfl, hz⟩ := fe_t0_d g0
    exact ⟨[(2, .int w2), (3, .int w3), (4, .int w4)], (fe_cs m2 (fe_cs m3 (fe_cs m4 fe_nl))), Or.inr ((bX49_immediate_42 FX49_plain FX105_bits FX105_immediateI FX49_compute FX49_byField FX49_immediate_0 FX49_immediate_16 FX49_immediate_21 FX49_immediate_42 FX49_immediate_46 FX49_immediate_84 FX49_immediate_103 FX49_immediate_107 FX49_immediate_108 FX49_immediate_127 FX49_immediate_156 w2 w3 w4 s0 s1 M).symm.trans hz)⟩
  rcases fe_mem_c hc with rfl | hc
  · obtain ⟨w3, m3, h⟩ := fe_lI_d h
    obtain ⟨w4, m4, h⟩ := fe_lI_d h
    obtain ⟨s2, t2, rfl, g2⟩ := fe_tR_d h
    obtain ⟨s1, t1, rfl, g1⟩ := fe_tR_d g2
    obtain ⟨s0, t0, rfl, g0⟩ := fe_tR_d g1
    obtain ⟨rfl, hz⟩ := fe_t0_d g0
    exact ⟨[(3, .int w3), (4, .int w4)], (fe_cs m3 (fe_cs m4 fe_nl)), Or.inr ((bX49_immediate_46 FX49_plain FX105_bits FX105_immediateI FX49_compute FX49_byField FX49_immediate_0 FX49_immediate_16 FX49_immediate_21 FX49_immediate_42 FX49_immediate_46 FX49_immediate_84 FX49_immediate_103 FX49_immediate_107 FX49_immediate_108 FX49_immediate_127 FX49_immediate_156 w3 w4 s0 s1 s2 M).symm.trans hz)⟩
  rcases fe_mem_c hc with rfl | hc
  · obtain ⟨w0, m0, h⟩ := fe_lR_d h
    obtain ⟨w1, m1, h⟩ := fe_lR_d h
    obtain ⟨w2, m2, h⟩ := fe_lI_d h
    obtain ⟨w3, m3, h⟩ := fe_lI_d h
    obtain ⟨w4, m4, h⟩ := fe_lI_d h
    obtain ⟨s0, t0, rfl, g0⟩ := fe_tI_d h
    obtain ⟨rfl, hz⟩ := fe_t0_d g0
    exact ⟨[(0, .ref w0), (1, .ref w1), (2, .int w2), (3, .int w3), (4, .int w4)], (fe_cs m0 (fe_cs m1 (fe_cs m2 (fe_cs m3 (fe_cs m4 fe_nl))))), Or.inr ((bX49_immediate_84 FX49_plain FX105_bits FX105_immediateI FX49_compute FX49_byField FX49_immediate_0 FX49_immediate_16 FX49_immediate_21 FX49_immediate_42 FX49_immediate_46 FX49_immediate_84 FX49_immediate_103 FX49_immediate_107 FX49_immediate_108 FX49_immediate_127 FX49_immediate_156 w0 w1 w2 w3 w4 s0 M).symm.trans hz)⟩
  rcases fe_mem_c hc with rfl | hc
  · obtain ⟨w0, m0, h⟩ := fe_lR_d h
    obtain ⟨w1, m1, h⟩ := fe_lR_d h
    obtain ⟨w2, m2, h⟩ := fe_lI_d h
    obtain ⟨w3, m3, h⟩ := fe_lI_d h
    obtain ⟨w4, m4, h⟩ := fe_lI_d h
    obtain ⟨w6, m6, h⟩ := fe_lI_d h
    obtain ⟨rfl, hz⟩ := fe_t0_d h
    exact ⟨[(0, .ref w0), (1, .ref w1), (2, .int w2), (3, .int w3), (4, .int w4), (6, .int w6)], (fe_cs m0 (fe_cs m1 (fe_cs m2 (fe_cs m3 (fe_cs m4 (fe_cs m6 fe_nl)))))), Or.inr ((bX49_immediate_103 FX49_plain FX105_bits FX105_immediateI FX49_compute FX49_byField FX49_immediate_0 FX49_immediate_16 FX49_immediate_21 FX49_immediate_42 FX49_immediate_46 FX49_immediate_84 FX49_immediate_103 FX49_immediate_107 FX49_immediate_108 FX49_immediate_127 FX49_immediate_156 w0 w1 w2 w3 w4 w6 M).symm.trans hz)⟩
  rcases fe_mem_c hc with rfl | hc
  · obtain ⟨w0, m0, h⟩ := fe_lR_d h
    obtain ⟨w1, m1, h⟩ := fe_lR_d h
    obtain ⟨w2, m2, h⟩ := fe_lI_d h
    obtain ⟨w3, m3, h⟩ := fe_lI_d h
    obtain ⟨w4, m4, h⟩ := fe_lI_d h
    obtain ⟨w6, m6, h⟩ := fe_lI_d h
    obtain ⟨rfl, hz⟩ := fe_t0_d h
    exact ⟨[(0, .ref w0), (1, .ref w1), (2, .int w2), (3, .int w3), (4, .int w4), (6, .int w6)], (fe_cs m0 (fe_cs m1 (fe_cs m2 (fe_cs m3 (fe_cs m4 (fe_cs m6 fe_nl)))))), Or.inr ((bX49_immediate_107 FX49_plain FX105_bits FX105_immediateI FX49_compute FX49_byField FX49_immediate_0 FX49_immediate_16 FX49_immediate_21 FX49_immediate_42 FX49_immediate_46 FX49_immediate_84 FX49_immediate_103 FX49_immediate_107 FX49_immediate_108 FX49_immediate_127 FX49_immediate_156 w0 w1 w2 w3 w4 w6 M).symm.trans hz)⟩
  rcases fe_mem_c hc with rfl | hc
  · obtain ⟨w0, m0, h⟩ := fe_lR_d h
    obtain ⟨w1, m1, h⟩ := fe_lR_d h
    obtain ⟨w2, m2, h⟩ := fe_lI_d h
    obtain ⟨w3, m3, h⟩ := fe_lI_d h
    obtain ⟨w4, m4, h⟩ := fe_lI_d h
    obtain ⟨w6, m6, h⟩ := fe_lI_d h
    obtain ⟨s0, t0, rfl, g0⟩ := fe_tI_d h
    obtain ⟨rfl, hz⟩ := fe_t0_d g0
    exact ⟨[(0, .ref w0), (1, .ref w1), (2, .int w2), (3, .int w3), (4, .int w4), (6, .int w6)], (fe_cs m0 (fe_cs m1 (fe_cs m2 (fe_cs m3 (fe_cs m4 (fe_cs m6 fe_nl)))))), Or.inr ((bX49_immediate_108 FX49_plain FX105_bits FX105_immediateI FX49_compute FX49_byField FX49_immediate_0 FX49_immediate_16 FX49_immediate_21 FX49_immediate_42 FX49_immediate_46 FX49_immediate_84 FX49_immediate_103 FX49_immediate_107 FX49_immediate_108 FX49_immediate_127 FX49_immediate_156 w0 w1 w2 w3 w4 w6 s0 M).symm.trans hz)⟩
  rcases fe_mem_c hc with rfl | hc
  · obtain ⟨w3, m3, h⟩ := fe_lI_d h
    obtain ⟨w4, m4, h⟩ := fe_lI_d h
    obtain ⟨s2, t2, rfl, g2⟩ := fe_tR_d h
    obtain ⟨s1, t1, rfl, g1⟩ := fe_tR_d g2
    obtain ⟨s0, t0, rfl, g0⟩ := fe_tR_d g1
    obtain ⟨rfl, hz⟩ := fe_t0_d g0
    exact ⟨[(3, .int w3), (4, .int w4)], (fe_cs m3 (fe_cs m4 fe_nl)), Or.inr ((bX49_immediate_127 FX49_plain FX105_bits FX105_immediateI FX49_compute FX49_byField FX49_immediate_0 FX49_immediate_16 FX49_immediate_21 FX49_immediate_42 FX49_immediate_46 FX49_immediate_84 FX49_immediate_103 FX49_immediate_107 FX49_immediate_108 FX49_immediate_127 FX49_immediate_156 w3 w4 s0 s1 s2 M).symm.trans hz)⟩
  rcases fe_mem_c hc with rfl | hc
  · obtain ⟨s5, t5, rfl, g5⟩ := fe_tL_d h
    obtain ⟨s4, t4, rfl, g4⟩ := fe_tI_d g5
    obtain ⟨s3, t3, rfl, g3⟩ := fe_tI_d g4
    obtain ⟨s2, t2, rfl, g2⟩ := fe_tR_d g3
    obtain ⟨s1, t1, rfl, g1⟩ := fe_tR_d g2
    obtain ⟨s0, t0, rfl, g0⟩ := fe_tR_d g1
    obtain ⟨rfl, hz⟩ := fe_t0_d g0
    exact ⟨[], fe_nl, Or.inr ((bX49_immediate_156 FX49_plain FX105_bits FX105_immediateI FX49_compute FX49_byField FX49_immediate_0 FX49_immediate_16 FX49_immediate_21 FX49_immediate_42 FX49_immediate_46 FX49_immediate_84 FX49_immediate_103 FX49_immediate_107 FX49_immediate_108 FX49_immediate_127 FX49_immediate_156 s0 s1 s2 s3 s4 s5 M).symm.trans hz)⟩
  exact fe_mem_0 hc
theorem vX49_immediate : fe_SB (sX49_immediate FX49_plain FX105_bits FX105_immediateI FX49_compute FX49_byField) := by
  refine ⟨?_, ?_, ?_, ?_⟩
  · intro i As M r h
    exact fe_no h
  · intro i As M r h
    rcases fe_bc h with h | h
    · obtain ⟨v0, t0, rfl, g0⟩ := fe_tI_d h
      obtain ⟨v1, t1, rfl, g1⟩ := fe_tI_d g0
      obtain ⟨v2, t2, rfl, g2⟩ := fe_tI_d g1
      obtain ⟨rfl, hz⟩ := fe_t0_d g2
      exact mX105_bits v0 v1 v2 M r hz
    exact fe_no h
  · intro i As M r h
    rcases fe_bc h with h | h
    · obtain ⟨v0, t0, rfl, g0⟩ := fe_tI_d h
      obtain ⟨rfl, hz⟩ := fe_t0_d g0
      exact mX105_immediateI v0 M r hz
    exact fe_no h
  · intro i As M r h
    rcases fe_bc h with h | h
    · obtain ⟨v0, t0, rfl, g0⟩ := fe_tI_d h
      obtain ⟨rfl, hz⟩ := fe_t0_d g0
      exact mX49_plain v0 M r hz
    rcases fe_bc h with h | h
    · obtain ⟨v0, t0, rfl, g0⟩ := fe_tR_d h
      obtain ⟨v1, t1, rfl, g1⟩ := fe_tR_d g0
      obtain ⟨v2, t2, rfl, g2⟩ := fe_tR_d g1
      obtain ⟨v3, t3, rfl, g3⟩ := fe_tI_d g2
      obtain ⟨v4, t4, rfl, g4⟩ := fe_tI_d g3
      obtain ⟨v5, t5, rfl, g5⟩ := fe_tL_d g4
      obtain ⟨rfl, hz⟩ := fe_t0_d g5
      exact mX49_compute v0 v1 v2 v3 v4 v5 M r hz
    rcases fe_bc h with h | h
    · obtain ⟨v0, t0, rfl, g0⟩ := fe_tI_d h
      obtain ⟨v1, t1, rfl, g1⟩ := fe_tI_d g0
      obtain ⟨rfl, hz⟩ := fe_t0_d g1
      exact mX49_byField v0 v1 M r hz
    exact fe_no h
theorem eX49_immediate (g0 : Nat → Nat → Int32 → Int32 → FM → Option (Nat × FM)) (g16 : Nat → Nat → Int32 → Int32 → Int32 → FM → Option (Nat × FM)) (g21 : Nat → Nat → Int32 → Int32 → Int32 → Int32 → FM → Option (Nat × FM)) (g42 : Int32 → Int32 → Int32 → Nat → Nat → FM → Option (Nat × FM)) (g46 : Int32 → Int32 → Nat → Nat → Nat → FM → Option (Nat × FM)) (g84 : Nat → Nat → Int32 → Int32 → Int32 → Int32 → FM → Option (Nat × FM)) (g103 : Nat → Nat → Int32 → Int32 → Int32 → Int32 → FM → Option (Nat × FM)) (g107 : Nat → Nat → Int32 → Int32 → Int32 → Int32 → FM → Option (Nat × FM)) (g108 : Nat → Nat → Int32 → Int32 → Int32 → Int32 → Int32 → FM → Option (Nat × FM)) (g127 : Int32 → Int32 → Nat → Nat → Nat → FM → Option (Nat × FM)) (g156 : Nat → Nat → Nat → Int32 → Int32 → Int64 → FM → Option (Nat × FM)) (a0 : Nat) (a1 : Nat) (a2 : Int32) (a3 : Int32) (M : FM) : dX49_immediate g0 g16 g21 g42 g46 g84 g103 g107 g108 g127 g156 0 [(0, .ref a0), (1, .ref a1), (2, .int a2), (3, .int a3)] [] M = g0 a0 a1 a2 a3 M := by rfl
theorem mX49_immediate (a0 : Nat) (a1 : Nat) (a2 : Int32) (a3 : Int32) (M : FM) (r : Nat × FM) (h : FX49_immediate a0 a1 a2 a3 M = some r) : fm_nx M ≤ fm_nx r.2 ∧ fm_ns M ≤ fm_ns r.2 :=
  fe_mono (L0 := [(0, .ref a0), (1, .ref a1), (2, .int a2), (3, .int a3)]) (vX49_immediate) (by decide +kernel) (hX49_immediate) (fe_ka_k r) 0 rfl ((eX49_immediate FX49_immediate_0 FX49_immediate_16 FX49_immediate_21 FX49_immediate_42 FX49_immediate_46 FX49_immediate_84 FX49_immediate_103 FX49_immediate_107 FX49_immediate_108 FX49_immediate_127 FX49_immediate_156 a0 a1 a2 a3 M).trans h)
theorem zX49_immediate {s0 : State} {H0 : Heap} {oa : Nat → Nat} {D : va_G} (K : fk s0 H0 oa D) (l : Launch) (a0 : Nat) (a1 : Nat) (a2 : Int32) (a3 : Int32) (M : FM) (r : Nat × FM) (h : FX49_immediate a0 a1 a2 a3 M = some r) : fs_Con (fk_E s0 H0 oa D) l 3 ⟨"BoardMachine$Integers$Decoder", "immediate", "(LBoardMachine$Integers$Decoded;IZ)LBoardMachine$Integers$Action;"⟩ prog_64_method_6_code 8 (Option.some (Jvm.ClassFile.FieldType.object "BoardMachine$Integers$Action")) [.ref a0, .ref a1, .int a2, .int a3] M (some (.ref r.1)) r.2 := by
  have o0 : fs_OS (sX49_immediate FX49_plain FX105_bits FX105_immediateI FX49_compute FX49_byField) 0 3 (fs_Con (fk_E s0 H0 oa D) l 1 ⟨"BoardMachine$Integers$Decoder", "plain", "(I)LBoardMachine$Integers$Sum;"⟩ prog_64_method_2_code 1 (Option.some (Jvm.ClassFile.FieldType.object "BoardMachine$Integers$Sum"))) := by
    intro As M r h
    obtain ⟨v0, t0, rfl, g0⟩ := fe_tI_d h
    obtain ⟨rfl, hz⟩ := fe_t0_d g0
    exact zX49_plain K l v0 M r hz
  have o1 : fs_OS (sX49_immediate FX49_plain FX105_bits FX105_immediateI FX49_compute FX49_byField) 1 1 (fs_Con (fk_E s0 H0 oa D) l 1 ⟨"BoardMachine$Integers$Fields", "bits", "(III)I"⟩ prog_66_method_2_code 3 (Option.some Jvm.ClassFile.FieldType.int)) := by
    intro As M r h
    obtain ⟨v0, t0, rfl, g0⟩ := fe_tI_d h
    obtain ⟨v1, t1, rfl, g1⟩ := fe_tI_d g0
    obtain ⟨v2, t2, rfl, g2⟩ := fe_tI_d g1
    obtain ⟨rfl, hz⟩ := fe_t0_d g2
    exact zX105_bits K l v0 v1 v2 M r hz
  have o2 : fs_OS (sX49_immediate FX49_plain FX105_bits FX105_immediateI FX49_compute FX49_byField) 2 2 (fs_Con (fk_E s0 H0 oa D) l 1 ⟨"BoardMachine$Integers$Fields", "immediateI", "(I)J"⟩ prog_66_method_3_code 1 (Option.some Jvm.ClassFile.FieldType.long)) := by
    intro As M r h
    obtain ⟨v0, t0, rfl, g0⟩ := fe_tI_d h
    obtain ⟨rfl, hz⟩ := fe_t0_d g0
    exact zX105_immediateI K l v0 M r hz
  have o3 : fs_OS (sX49_immediate FX49_plain FX105_bits FX105_immediateI FX49_compute FX49_byField) 3 3 (fs_Con (fk_E s0 H0 oa D) l 1 ⟨"BoardMachine$Integers$Decoder", "compute", "(LBoardMachine$Integers$Decoded;LBoardMachine$Integers$Sum;ZZJ)LBoardMachine$Integers$Action;"⟩ prog_64_method_5_code 7 (Option.some (Jvm.ClassFile.FieldType.object "BoardMachine$Integers$Action"))) := by
    intro As M r h
    obtain ⟨v0, t0, rfl, g0⟩ := fe_tR_d h
    obtain ⟨v1, t1, rfl, g1⟩ := fe_tR_d g0
    obtain ⟨v2, t2, rfl, g2⟩ := fe_tR_d g1
    obtain ⟨v3, t3, rfl, g3⟩ := fe_tI_d g2
    obtain ⟨v4, t4, rfl, g4⟩ := fe_tI_d g3
    obtain ⟨v5, t5, rfl, g5⟩ := fe_tL_d g4
    obtain ⟨rfl, hz⟩ := fe_t0_d g5
    exact zX49_compute K l v0 v1 v2 v3 v4 v5 M r hz
  have o4 : fs_OS (sX49_immediate FX49_plain FX105_bits FX105_immediateI FX49_compute FX49_byField) 4 3 (fs_Con (fk_E s0 H0 oa D) l 2 ⟨"BoardMachine$Integers$Decoder", "byField", "(II)LBoardMachine$Integers$Sum;"⟩ prog_64_method_4_code 2 (Option.some (Jvm.ClassFile.FieldType.object "BoardMachine$Integers$Sum"))) := by
    intro As M r h
    obtain ⟨v0, t0, rfl, g0⟩ := fe_tI_d h
    obtain ⟨v1, t1, rfl, g1⟩ := fe_tI_d g0
    obtain ⟨rfl, hz⟩ := fe_t0_d g1
    exact zX49_byField K l v0 v1 M r hz
  refine fs_method (own := "BoardMachine$Integers$Decoder") rfl (by decide) K.2.1 (by rw [fe_slen]; exact (Nat.le_of_ble_eq_true rfl)) (mX49_immediate a0 a1 a2 a3 M r h) (hX49_immediate) 0 rfl (L0 := [(0, .ref a0), (1, .ref a1), (2, .int a2), (3, .int a3)]) (fun E => fe_args_e E [.ref a0, .ref a1, .int a2, .int a3] 0) ((eX49_immediate FX49_immediate_0 FX49_immediate_16 FX49_immediate_21 FX49_immediate_42 FX49_immediate_46 FX49_immediate_84 FX49_immediate_103 FX49_immediate_107 FX49_immediate_108 FX49_immediate_127 FX49_immediate_156 a0 a1 a2 a3 M).trans h) (fe_ka_k r) (fun H hR => fs_nr_o (by decide) (by decide)) ?_
  intro p e s m args below meth c Q C hnm
  have hw : s0.WarmedH s.vm := C.2.2.2.2.1
  refine fe_all C fk_hwr cX49_immediate [1, 43, 50, 53, 67, 79, 120, 139, 152, 156] (by decide +kernel) (fe_fil (cps := [(1, 4, .getfield 629395700), (43, 46, .invokestatic 7), (50, 53, .invokestatic 134), (53, 56, .invokevirtual 229701694), (67, 70, .invokestatic 77), (79, 82, .invokestatic 77), (120, 123, .invokestatic 267), (139, 142, .invokestatic 77), (152, 155, .invokestatic 77), (156, 159, .invokevirtual 229701694)]) (by decide +kernel) ?_)
  refine fs_c1 (fs_getf (pc := 1) (n := 629395700) (idx := 148) (ref := "BoardMachine$Integers$Decoded") (O := "BoardMachine$Integers$Decoded") (name := "word") (desc := "I") C (by decide +kernel) (Or.inr ⟨_, kF K hw q3244⟩) (fun _ h => h) (Nat.le_of_ble_eq_true rfl) (Nat.le_of_ble_eq_true rfl) (fs_one (⟨_, ff_61_150 s0 H0 oa D⟩))) ?_
  refine fs_c1 (fs_inv_static (pc := 43) (n := 7) C (fs_lk_static (idx := 119) (y := ⟨"BoardMachine$Integers$Decoder", "plain", "(I)LBoardMachine$Integers$Sum;"⟩) (bytes := prog_64_method_2_code) (maxL := 1) (rt := (Option.some (Jvm.ClassFile.FieldType.object "BoardMachine$Integers$Sum"))) (d := 1) C (by decide +kernel) (kw K hw q3349) (kw K hw q360) (kw K hw q3348) (Or.inl (kw K hw q3347)) ⟨by decide, by decide⟩ rfl (Nat.le_of_ble_eq_true rfl) (Nat.le_of_ble_eq_true rfl)) fs_con_mono o0) ?_
  refine fs_c1 (fs_inv_static (pc := 50) (n := 134) C (fs_lk_static (idx := 152) (y := ⟨"BoardMachine$Integers$Fields", "immediateI", "(I)J"⟩) (bytes := prog_66_method_3_code) (maxL := 1) (rt := (Option.some Jvm.ClassFile.FieldType.long)) (d := 1) C (by decide +kernel) (kw K hw q3335) (kw K hw q430) (kw K hw q3334) (Or.inl (kw K hw q3333)) ⟨by decide, by decide⟩ rfl (Nat.le_of_ble_eq_true rfl) (Nat.le_of_ble_eq_true rfl)) fs_con_mono o2) ?_
  refine fs_c1 (fs_inv_virtual (pc := 53) (n := 229701694) C (Nat.le_of_ble_eq_true rfl) (Nat.le_of_ble_eq_true rfl) (fs_lk_virtual (idx := 158) (y := ⟨"BoardMachine$Integers$Decoder", "compute", "(LBoardMachine$Integers$Decoded;LBoardMachine$Integers$Sum;ZZJ)LBoardMachine$Integers$Action;"⟩) (bytes := prog_64_method_5_code) (maxL := 7) (rt := (Option.some (Jvm.ClassFile.FieldType.object "BoardMachine$Integers$Action"))) (d := 1) C (Nat.le_of_ble_eq_true rfl) (Nat.le_of_ble_eq_true rfl) (by decide +kernel) (kw K hw q3369) (kw K hw q360) (kw K hw q3368) (Or.inl (kw K hw q3366)) ⟨by decide, by decide⟩ rfl (Nat.le_of_ble_eq_true rfl) (Nat.le_of_ble_eq_true rfl) (fs_one (⟨_, rfl, kw K hw qs58⟩))) fs_con_mono o3) ?_
  refine fs_c1 (fs_inv_static (pc := 67) (n := 77) C (fs_lk_static (idx := 161) (y := ⟨"BoardMachine$Integers$Fields", "bits", "(III)I"⟩) (bytes := prog_66_method_2_code) (maxL := 3) (rt := (Option.some Jvm.ClassFile.FieldType.int)) (d := 1) C (by decide +kernel) (kw K hw q3317) (kw K hw q430) (kw K hw q3316) (Or.inl (kw K hw q3315)) ⟨by decide, by decide⟩ rfl (Nat.le_of_ble_eq_true rfl) (Nat.le_of_ble_eq_true rfl)) fs_con_mono o1) ?_
  refine fs_c1 (fs_inv_static (pc := 79) (n := 77) C (fs_lk_static (idx := 161) (y := ⟨"BoardMachine$Integers$Fields", "bits", "(III)I"⟩) (bytes := prog_66_method_2_code) (maxL := 3) (rt := (Option.some Jvm.ClassFile.FieldType.int)) (d := 1) C (by decide +kernel) (kw K hw q3317) (kw K hw q430) (kw K hw q3316) (Or.inl (kw K hw q3315)) ⟨by decide, by decide⟩ rfl (Nat.le_of_ble_eq_true rfl) (Nat.le_of_ble_eq_true rfl)) fs_con_mono o1) ?_
  refine fs_c1 (fs_inv_static (pc := 120) (n := 267) C (fs_lk_static (idx := 165) (y := ⟨"BoardMachine$Integers$Decoder", "byField", "(II)LBoardMachine$Integers$Sum;"⟩) (bytes := prog_64_method_4_code) (maxL := 2) (rt := (Option.some (Jvm.ClassFile.FieldType.object "BoardMachine$Integers$Sum"))) (d := 2) C (by decide +kernel) (kw K hw q3372) (kw K hw q360) (kw K hw q3371) (Or.inl (kw K hw q3370)) ⟨by decide, by decide⟩ rfl (Nat.le_of_ble_eq_true rfl) (Nat.le_of_ble_eq_true rfl)) fs_con_mono o4) ?_
  refine fs_c1 (fs_inv_static (pc := 139) (n := 77) C (fs_lk_static (idx := 161) (y := ⟨"BoardMachine$Integers$Fields", "bits", "(III)I"⟩) (bytes := prog_66_method_2_code) (maxL := 3) (rt := (Option.some Jvm.ClassFile.FieldType.int)) (d := 1) C (by decide +kernel) (kw K hw q3317) (kw K hw q430) (kw K hw q3316) (Or.inl (kw K hw q3315)) ⟨by decide, by decide⟩ rfl (Nat.le_of_ble_eq_true rfl) (Nat.le_of_ble_eq_true rfl)) fs_con_mono o1) ?_
  refine fs_c1 (fs_inv_static (pc := 152) (n := 77) C (fs_lk_static (idx := 161) (y := ⟨"BoardMachine$Integers$Fields", "bits", "(III)I"⟩) (bytes := prog_66_method_2_code) (maxL := 3) (rt := (Option.some Jvm.ClassFile.FieldType.int)) (d := 1) C (by decide +kernel) (kw K hw q3317) (kw K hw q430) (kw K hw q3316) (Or.inl (kw K hw q3315)) ⟨by decide, by decide⟩ rfl (Nat.le_of_ble_eq_true rfl) (Nat.le_of_ble_eq_true rfl)) fs_con_mono o1) ?_
  refine fs_c1 (fs_inv_virtual (pc := 156) (n := 229701694) C (Nat.le_of_ble_eq_true rfl) (Nat.le_of_ble_eq_true rfl) (fs_lk_virtual (idx := 158) (y := ⟨"BoardMachine$Integers$Decoder", "compute", "(LBoardMachine$Integers$Decoded;LBoardMachine$Integers$Sum;ZZJ)LBoardMachine$Integers$Action;"⟩) (bytes := prog_64_method_5_code) (maxL := 7) (rt := (Option.some (Jvm.ClassFile.FieldType.object "BoardMachine$Integers$Action"))) (d := 1) C (Nat.le_of_ble_eq_true rfl) (Nat.le_of_ble_eq_true rfl) (by decide +kernel) (kw K hw q3369) (kw K hw q360) (kw K hw q3368) (Or.inl (kw K hw q3366)) ⟨by decide, by decide⟩ rfl (Nat.le_of_ble_eq_true rfl) (Nat.le_of_ble_eq_true rfl) (fs_one (⟨_, rfl, kw K hw qs58⟩))) fs_con_mono o3) ?_
  exact fs_c0
