/-! halves: the component's lines -/
set_option maxRecDepth 100000
section Ln
variable {l : Nat} {M : FM} {h : Int32}
theorem X36_p : GX36_p h M = (nI (8 + fd h 9 7), M) := by
  unfold GX36_p GX36_p_0
  rw [X103_bits h (Int32.ofInt 9) (Int32.ofInt 7) M (hi := 9) (lo := 7) (by decide) (by decide) rfl rfl]
  dsimp only
  rw [lit_8, nI_a]
theorem X36_s : GX36_s h M = (nI (8 + fd h 4 2), M) := by
  unfold GX36_s GX36_s_0
  rw [X103_bits h (Int32.ofInt 4) (Int32.ofInt 2) M (hi := 4) (lo := 2) (by decide) (by decide) rfl rfl]
  dsimp only
  rw [lit_8, nI_a]
theorem X36_r : GX36_r h M = (nI (fd h 11 7), M) := by
  unfold GX36_r GX36_r_0
  rw [X103_bits h (Int32.ofInt 11) (Int32.ofInt 7) M (hi := 11) (lo := 7) (by decide) (by decide) rfl rfl]
theorem X36_q : GX36_q h M = (nI (fd h 6 2), M) := by
  unfold GX36_q GX36_q_0
  rw [X103_bits h (Int32.ofInt 6) (Int32.ofInt 2) M (hi := 6) (lo := 2) (by decide) (by decide) rfl rfl]
theorem b_p (h : Int32) : 8 + fd h 9 7 < 32 ∧ 8 + fd h 4 2 < 32 ∧ fd h 11 7 < 32 ∧ fd h 6 2 < 32 := by
  have a := fd_lt h (hi := 9) (lo := 7) (by decide)
  have b := fd_lt h (hi := 4) (lo := 2) (by decide)
  have c := fd_lt h (hi := 11) (lo := 7) (by decide)
  have d := fd_lt h (hi := 6) (lo := 2) (by decide)
  omega
/-- loads and stores -/
theorem X38_make {c f st : Nat} {pl : List (Nat × Nat × Nat)} (T : Ty M) (h1 : M.1 130 l 0 = nI c) (h2 : M.1 131 l 0 = nI f) (h3 : M.1 132 l 0 = nI st) (L : LyS (M.2.2 129 l 0) M pl 0) (hl : pl.length < 100) (hc : c < 128) (hf : f < 8) (hs : st < 2) :
    HX38_make l h M ∧ GX38_make l h M = (if st = 0 then wI c (8 + fd h 4 2) f (8 + fd h 9 7) (sgO 0 (rdO h pl (Int32.ofInt 0))) else wS c f (8 + fd h 9 7) (8 + fd h 4 2) (sgO 0 (rdO h pl (Int32.ofInt 0))), M) := by
  obtain ⟨p1, p2, p3, p4⟩ := b_p h
  obtain ⟨r1, r2⟩ := X35_read T L hl h
  unfold HX38_make HX38_make_0 GX38_make GX38_make_0 GX38_make_59
  dsimp only
  rw [r2]
  dsimp only
  rw [X36_s]
  dsimp only
  rw [X36_p]
  dsimp only
  rw [X36_s]
  dsimp only
  rw [h1, h2, h3, X103_ofI hc p2 hf p1, X103_ofS hc hf p1 p2]
  refine ⟨⟨r1, trivial⟩, ?_⟩
  by_cases z : st = 0
  · rw [if_pos z, fi_pos (show nI st = 0 by rw [z]; rfl)]
  · rw [if_neg z, fi_neg (show ¬ nI st = 0 from fun q => z (nI_j (b := 0) (by omega) (by decide) q))]
/-- loads and stores by register 2 -/
theorem X44_make {c f st : Nat} {pl : List (Nat × Nat × Nat)} (T : Ty M) (h1 : M.1 138 l 0 = nI c) (h2 : M.1 139 l 0 = nI f) (h3 : M.1 140 l 0 = nI st) (L : LyS (M.2.2 129 l 0) M pl 0) (hl : pl.length < 100) (hc : c < 128) (hf : f < 8) (hs : st < 2) :
    HX44_make l h M ∧ GX44_make l h M = (if st = 0 then (if c = 3 then fi (nI (fd h 11 7) = 0) (nI 0) (wI c (fd h 11 7) f 2 (sgO 0 (rdO h pl (Int32.ofInt 0)))) else wI c (fd h 11 7) f 2 (sgO 0 (rdO h pl (Int32.ofInt 0)))) else wS c f 2 (fd h 6 2) (sgO 0 (rdO h pl (Int32.ofInt 0))), M) := by
  obtain ⟨p1, p2, p3, p4⟩ := b_p h
  obtain ⟨r1, r2⟩ := X35_read T L hl h
  unfold HX44_make HX44_make_0 GX44_make GX44_make_0 GX44_make_53 GX44_make_70
  dsimp only
  rw [r2]
  dsimp only
  rw [X36_r]
  dsimp only
  rw [X36_r]
  dsimp only
  rw [X36_q]
  dsimp only
  rw [h1, h2, h3, lit_2, X103_ofI hc p3 hf (by decide), X103_ofS hc hf (by decide) p4]
  refine ⟨⟨r1, trivial⟩, ?_⟩
  by_cases z : st = 0
  · rw [if_pos z, fi_pos (show nI st = 0 by rw [z]; rfl)]
    by_cases y : c = 3
    · rw [if_pos y, fi_pos (show nI c = Int32.ofInt 3 by rw [y]; rfl), fi_P]
      rfl
    · rw [if_neg y, fi_neg (show ¬ nI c = Int32.ofInt 3 from fun q => y (nI_j (b := 3) (by omega) (by decide) q))]
  · rw [if_neg z, fi_neg (show ¬ nI st = 0 from fun q => z (nI_j (b := 0) (by omega) (by decide) q))]
/-- a register and an immediate -/
theorem X39_make {c f z sg : Nat} {pl : List (Nat × Nat × Nat)} (T : Ty M) (h1 : M.1 133 l 0 = nI c) (h2 : M.1 134 l 0 = nI f) (h3 : M.1 135 l 0 = nI z) (L : LyS (M.2.2 129 l 0) M pl sg) (hl : pl.length < 100) (hc : c < 128) (hf : f < 8) (hs : z < 2) :
    HX39_make l h M ∧ GX39_make l h M = (if c = 27 then fi (nI (fd h 11 7) = 0) (nI 0) (wI c (fd h 11 7) f (if z = 0 then fd h 11 7 else 0) (sgO sg (rdO h pl (Int32.ofInt 0)))) else wI c (fd h 11 7) f (if z = 0 then fd h 11 7 else 0) (sgO sg (rdO h pl (Int32.ofInt 0))), M) := by
  obtain ⟨p1, p2, p3, p4⟩ := b_p h
  obtain ⟨r1, r2⟩ := X35_read T L hl h
  have e20 : HX39_make_20 l h M ∧ GX39_make_20 l h M = (wI c (fd h 11 7) f (if z = 0 then fd h 11 7 else 0) (sgO sg (rdO h pl (Int32.ofInt 0))), M) := by
    unfold HX39_make_20 HX39_make_47 GX39_make_20 GX39_make_47 GX39_make_58
    dsimp only
    rw [X36_r]
    dsimp only
    rw [X36_r]
    dsimp only
    rw [r2]
    dsimp only
    rw [h1, h2, h3, lit_0, X103_ofI hc p3 hf p3, X103_ofI hc p3 hf (by decide)]
    refine ⟨⟨fun _ => ⟨r1, trivial⟩, fun _ => ⟨r1, trivial⟩⟩, ?_⟩
    by_cases y : z = 0
    · rw [if_pos y, fi_pos (show nI z = 0 by rw [y]; rfl)]
    · rw [if_neg y, fi_neg (show ¬ nI z = 0 from fun q => y (nI_j (b := 0) (by omega) (by decide) q))]
  unfold HX39_make HX39_make_0 GX39_make GX39_make_0 GX39_make_58
  dsimp only
  rw [X36_r]
  dsimp only
  rw [e20.2, h1]
  refine ⟨⟨fun _ => ⟨fun _ => trivial, fun _ => e20.1⟩, fun _ => e20.1⟩, ?_⟩
  by_cases y : c = 27
  · rw [if_pos y, fi_pos (show nI c = Int32.ofInt 27 by rw [y]; rfl), fi_P]
    rfl
  · rw [if_neg y, fi_neg (show ¬ nI c = Int32.ofInt 27 from fun q => y (nI_j (b := 27) (by omega) (by decide) q))]
theorem X37_make {pl : List (Nat × Nat × Nat)} (T : Ty M) (L : LyS (M.2.2 129 l 0) M pl 0) (hl : pl.length < 100) :
    HX37_make l h M ∧ GX37_make l h M = (fi (sgO 0 (rdO h pl (Int32.ofInt 0)) = 0) (nI 0) (wI 19 (8 + fd h 4 2) 0 2 (sgO 0 (rdO h pl (Int32.ofInt 0)))), M) := by
  obtain ⟨p1, p2, p3, p4⟩ := b_p h
  obtain ⟨r1, r2⟩ := X35_read T L hl h
  unfold HX37_make HX37_make_0 GX37_make GX37_make_0 GX37_make_29
  dsimp only
  rw [r2]
  dsimp only
  rw [X36_s]
  dsimp only
  rw [lit_19, lit_0, lit_2, X103_ofI (by decide) p2 (by decide) (by decide), fi_P]
  exact ⟨⟨r1, trivial⟩, rfl⟩
theorem X40_make {pl pu : List (Nat × Nat × Nat)} {sg su : Nat} (T : Ty M) (L : LyS (M.2.2 129 l 0) M pl sg) (hl : pl.length < 100) (U : LyS (M.2.2 141 l 0) M pu su) (hu : pu.length < 100) :
    HX40_make l h M ∧ GX40_make l h M = (fi (nI (fd h 11 7) = nI 2) (fi (sgO sg (rdO h pl (Int32.ofInt 0)) = 0) (nI 0) (wI 19 2 0 2 (sgO sg (rdO h pl (Int32.ofInt 0)))))
      (fi (sgO su (rdO h pu (Int32.ofInt 0)) = 0) (nI 0) (Int32.ofInt 55 + Int32.ofInt 128 * nI (fd h 11 7) + Int32.ofInt 4096 * sgO su (rdO h pu (Int32.ofInt 0)))), M) := by
  obtain ⟨p1, p2, p3, p4⟩ := b_p h
  obtain ⟨r1, r2⟩ := X35_read T L hl h
  obtain ⟨s1, s2⟩ := X35_read T U hu h
  unfold HX40_make HX40_make_0 GX40_make GX40_make_0 GX40_make_34 GX40_make_65
  dsimp only
  rw [X36_r]
  dsimp only
  rw [r2]
  dsimp only
  rw [s2]
  dsimp only
  rw [X36_r]
  dsimp only
  rw [X103_ofU p3]
  dsimp only
  rw [lit_19, lit_0, lit_2, X103_ofI (by decide) (by decide) (by decide) (by decide), fi_P, fi_P, fi_P]
  exact ⟨⟨fun _ => ⟨r1, trivial⟩, fun _ => ⟨s1, trivial⟩⟩, rfl⟩
theorem X42_make {pl : List (Nat × Nat × Nat)} {sg : Nat} (T : Ty M) (L : LyS (M.2.2 129 l 0) M pl sg) (hl : pl.length < 100) : HX42_make l h M ∧ GX42_make l h M = (wJ (sgO sg (rdO h pl (Int32.ofInt 0))), M) := by
  obtain ⟨r1, r2⟩ := X35_read T L hl h
  unfold HX42_make HX42_make_0 GX42_make GX42_make_0
  dsimp only
  rw [r2]
  dsimp only
  rw [X103_ofJ]
  exact ⟨⟨r1, trivial⟩, rfl⟩
theorem X43_make {t : Nat} {pl : List (Nat × Nat × Nat)} {sg : Nat} (T : Ty M) (h1 : M.1 128 l 0 = nI (6 + t)) (ht : t < 2) (L : LyS (M.2.2 129 l 0) M pl sg) (hl : pl.length < 100) : HX43_make l h M ∧ GX43_make l h M = (wB t (8 + fd h 9 7) (sgO sg (rdO h pl (Int32.ofInt 0))), M) := by
  obtain ⟨p1, p2, p3, p4⟩ := b_p h
  obtain ⟨r1, r2⟩ := X35_read T L hl h
  have e : nI (6 + t) - Int32.ofInt 6 = nI t := by
    have : t = 0 ∨ t = 1 := by omega
    rcases this with rfl | rfl <;> decide
  unfold HX43_make HX43_make_0 GX43_make GX43_make_0
  dsimp only
  rw [X36_p]
  dsimp only
  rw [r2]
  dsimp only
  rw [h1, e, X103_ofB (by omega) p1]
  exact ⟨⟨r1, trivial⟩, rfl⟩
theorem X45_make : GX45_make l h M = (hJm h, M) := by
  obtain ⟨p1, p2, p3, p4⟩ := b_p h
  have h2 := fd_lt h (hi := 12) (lo := 12) (by decide)
  unfold GX45_make GX45_make_0
  rw [X103_bits h (Int32.ofInt 12) (Int32.ofInt 12) M (hi := 12) (lo := 12) (by decide) (by decide) rfl rfl]
  dsimp only
  unfold GX45_make_17 GX45_make_44 GX45_make_70 GX45_make_82 hJm hJ3
  simp only [X36_q, X36_r]
  rw [lit_0, lit_1, lit_51, lit_103, X103_ofI (by decide) (by decide) (by decide) p3, X103_ofI (by decide) (by decide) (by decide) p3, X103_ofR (by decide) p3 (by decide) (by decide) p4 (by decide), X103_ofR (by decide) p3 (by decide) p3 p4 (by decide)]
  have bk : Int32.ofInt 1048691 = wI 115 0 0 0 (nI 1) := by
    unfold wI
    decide
  rw [bk]
  have z0 : nI 0 = 0 := rfl
  have o0 : ¬ nI 1 = 0 := by decide
  have : fd h 12 12 = 0 ∨ fd h 12 12 = 1 := by omega
  rcases this with e | e
  · rw [e, fi_neg (show ¬ nI 0 = nI 1 by decide), fi_pos z0, fi_pos z0, fi_pos z0, fi_pos z0, fi_pos z0]
    by_cases a : nI (fd h 6 2) = 0
    · rw [fi_pos a, fi_pos a]
      by_cases b : nI (fd h 11 7) = 0
      · rw [fi_pos b, fi_pos b]
      · rw [fi_neg b, fi_neg b]
    · rw [fi_neg a, fi_neg a, fi_neg a]
  · rw [e, fi_pos (show nI 1 = nI 1 from rfl), fi_neg o0, fi_neg o0, fi_neg o0, fi_neg o0, fi_neg o0]
    by_cases a : nI (fd h 6 2) = 0
    · rw [fi_pos a, fi_pos a, fi_pos a]
      by_cases b : nI (fd h 11 7) = 0
      · rw [fi_pos b, fi_pos b]
      · rw [fi_neg b, fi_neg b]
    · rw [fi_neg a, fi_neg a, fi_neg a]
end Ln
