/-! halves: the component's reckoning; all words are the same -/
set_option maxRecDepth 100000
def SM : List Nat := [51, 0, 32, 51, 4, 0, 51, 6, 0, 51, 7, 0, 59, 0, 32, 59, 0, 0]
section Ln
variable {l : Nat} {M : FM} {h : Int32}
theorem X41_make (T : Ty M) (n : fm_is M 47 47 l = true) (L : LyS (M.2.2 129 l 0) M pl_z 0) (U : LyS (M.2.2 137 l 0) M pl_n 5) (hs : ∀ k, k < 18 → M.1 3 (M.2.2 136 l 0) k = nI (SM.getD k 0)) :
    HX41_make l h M ∧ GX41_make l h M = (hAr h, M) := by
  obtain ⟨p1, p2, p3, p4⟩ := b_p h
  obtain ⟨r1, r2⟩ := X35_read T L (by decide) h
  obtain ⟨s1, s2⟩ := X35_read T U (by decide) h
  rw [ly_z] at r2
  rw [ly_n] at s2
  have h2 := fd_lt h (hi := 12) (lo := 12) (by decide)
  have h4 := fd_lt h (hi := 6) (lo := 5) (by decide)
  have x9 : Int32.ofInt 3 * (Int32.ofInt 4 * nI (fd h 12 12) + nI (fd h 6 5)) = nI (3 * (4 * fd h 12 12 + fd h 6 5)) := by rw [lit_3, lit_4, nI_m, nI_a, nI_m]
  have b1 := X103_bits h (Int32.ofInt 11) (Int32.ofInt 10) M (hi := 11) (lo := 10) (by decide) (by decide) rfl rfl
  have b2 := X103_bits h (Int32.ofInt 12) (Int32.ofInt 12) M (hi := 12) (lo := 12) (by decide) (by decide) rfl rfl
  have b3 := X103_bits h (Int32.ofInt 6) (Int32.ofInt 5) M (hi := 6) (lo := 5) (by decide) (by decide) rfl rfl
  have ln : Int32.ofNat (M.2.2 1 (M.2.2 136 l 0) 0) = nI 18 := by rw [tL_136 T.1 n]; rfl
  have up1 : ∀ k, k < 6 → nI (3 * k) + Int32.ofInt 1 = nI (3 * k + 1) := fun k hk => up_1 (by omega)
  have up2 : ∀ k, k < 6 → nI (3 * k) + Int32.ofInt 2 = nI (3 * k + 2) := fun k hk => n_add (b := 2) (by omega) (by decide)
  have inn : ∀ i, i < 18 → fm_in M (M.2.2 136 l 0) (nI i) = true := fun i hi => in_nI (tL_136 T.1 n) hi (by decide)
  have lt : nI (3 * (4 * fd h 12 12 + fd h 6 5)) < nI 18 ↔ 4 * fd h 12 12 + fd h 6 5 < 6 := (nlt (n := 3 * (4 * fd h 12 12 + fd h 6 5)) (by omega) 18 (by decide)).trans (by omega)
  constructor
  · unfold HX41_make HX41_make_0
    dsimp only
    rw [b1]
    dsimp only
    rw [b2]
    dsimp only
    rw [b3]
    dsimp only
    rw [X36_p]
    dsimp only
    rw [X36_p]
    dsimp only
    rw [X36_s, x9, ln]
    refine ⟨fun _ => ⟨fun _ => ⟨s1, trivial⟩, fun _ => ⟨fun y => ?_, fun _ => trivial⟩⟩, fun _ => ⟨r1, trivial⟩⟩
    have k6 := lt.mp y
    dsimp only
    rw [up1 _ k6, up2 _ k6]
    exact ⟨inn _ (by omega), inn _ (by omega), inn _ (by omega), trivial⟩
  · unfold GX41_make GX41_make_0 GX41_make_143 hAr
    dsimp only
    rw [b1]
    dsimp only
    rw [b2]
    dsimp only
    rw [b3]
    dsimp only
    rw [X36_p]
    dsimp only
    rw [X36_p]
    dsimp only
    rw [X36_s]
    dsimp only
    rw [r2, s2]
    dsimp only
    rw [x9, ln, lit_2, lit_19, lit_7, lit_5, lit_1024, lit_0, X103_ofI (by decide) p1 (by decide) p1, X103_ofI (by decide) p1 (by decide) p1, nI_m, nI_a, nI_a]
    by_cases w2 : nI 2 ≤ nI (fd h 11 10)
    · rw [fi_pos w2, fi_pos w2]
      by_cases we : nI (fd h 11 10) = nI 2
      · rw [fi_pos we, fi_pos we]
      · rw [fi_neg we, fi_neg we]
        have sum : ∀ k, k < 6 → 4 * fd h 12 12 + fd h 6 5 = k → ∀ c f g, SM.getD (3 * k) 0 = c → SM.getD (3 * k + 1) 0 = f → SM.getD (3 * k + 2) 0 = g → c < 128 → f < 8 → g < 128 →
            GX103_ofR (M.1 3 (M.2.2 136 l 0) (nI (3 * (4 * fd h 12 12 + fd h 6 5))).toNatClampNeg) (nI (8 + fd h 9 7)) (M.1 3 (M.2.2 136 l 0) (nI (3 * (4 * fd h 12 12 + fd h 6 5)) + Int32.ofInt 1).toNatClampNeg) (nI (8 + fd h 9 7)) (nI (8 + fd h 4 2)) (M.1 3 (M.2.2 136 l 0) (nI (3 * (4 * fd h 12 12 + fd h 6 5) + 2)).toNatClampNeg) M = (wI c (8 + fd h 9 7) f (8 + fd h 9 7) (nI (8 + fd h 4 2 + 32 * g)), M) := fun k hk e c f g e1 e2 e3 hc hf hg => by
          rw [e, up1 k hk, o_cl (by omega), o_cl (by omega), o_cl (by omega), hs _ (by omega), hs _ (by omega), hs _ (by omega), e1, e2, e3, X103_ofR hc p1 hf p1 p2 hg]
        have hk : 4 * fd h 12 12 + fd h 6 5 = 0 ∨ 4 * fd h 12 12 + fd h 6 5 = 1 ∨ 4 * fd h 12 12 + fd h 6 5 = 2 ∨ 4 * fd h 12 12 + fd h 6 5 = 3 ∨ 4 * fd h 12 12 + fd h 6 5 = 4 ∨ 4 * fd h 12 12 + fd h 6 5 = 5 ∨ 6 ≤ 4 * fd h 12 12 + fd h 6 5 := by omega
        have ne : ∀ {a b : Nat}, a < 4096 → b < 4096 → a ≠ b → ¬ nI a = nI b := fun ha hb h e => h (nI_j ha hb e)
        rcases hk with e | e | e | e | e | e | e
        · rw [fi_pos (lt.mpr (by omega)), sum 0 (by decide) e 51 0 32 rfl rfl rfl (by decide) (by decide) (by decide), e, fi_pos rfl]
        · rw [fi_pos (lt.mpr (by omega)), sum 1 (by decide) e 51 4 0 rfl rfl rfl (by decide) (by decide) (by decide), e, fi_neg (show ¬ nI 1 = nI 0 by decide), fi_pos rfl]
        · rw [fi_pos (lt.mpr (by omega)), sum 2 (by decide) e 51 6 0 rfl rfl rfl (by decide) (by decide) (by decide), e, fi_neg (show ¬ nI 2 = nI 0 by decide), fi_neg (show ¬ nI 2 = nI 1 by decide), fi_pos rfl]
        · rw [fi_pos (lt.mpr (by omega)), sum 3 (by decide) e 51 7 0 rfl rfl rfl (by decide) (by decide) (by decide), e, fi_neg (show ¬ nI 3 = nI 0 by decide), fi_neg (show ¬ nI 3 = nI 1 by decide), fi_neg (show ¬ nI 3 = nI 2 by decide), fi_pos rfl]
        · rw [fi_pos (lt.mpr (by omega)), sum 4 (by decide) e 59 0 32 rfl rfl rfl (by decide) (by decide) (by decide), e, fi_neg (show ¬ nI 4 = nI 0 by decide), fi_neg (show ¬ nI 4 = nI 1 by decide), fi_neg (show ¬ nI 4 = nI 2 by decide), fi_neg (show ¬ nI 4 = nI 3 by decide), fi_pos rfl]
        · rw [fi_pos (lt.mpr (by omega)), sum 5 (by decide) e 59 0 0 rfl rfl rfl (by decide) (by decide) (by decide), e, fi_neg (show ¬ nI 5 = nI 0 by decide), fi_neg (show ¬ nI 5 = nI 1 by decide), fi_neg (show ¬ nI 5 = nI 2 by decide), fi_neg (show ¬ nI 5 = nI 3 by decide), fi_neg (show ¬ nI 5 = nI 4 by decide), fi_pos rfl]
        · rw [fi_neg (fun y => by have := lt.mp y; omega), fi_neg (ne (by omega) (by decide) (by omega)), fi_neg (ne (by omega) (by decide) (by omega)), fi_neg (ne (by omega) (by decide) (by omega)), fi_neg (ne (by omega) (by decide) (by omega)), fi_neg (ne (by omega) (by decide) (by omega)), fi_neg (ne (by omega) (by decide) (by omega))]
    · rw [fi_neg w2, fi_neg w2]
end Ln
