/-! what a reading leaves alone: the twin's controller finds nothing amiss -/
set_option maxRecDepth 100000
section Rc
variable {m p B w n z : Nat} {M N : FM} {K : Kr} {S : Sr} {soft : Nat → Int32} {num : Nat → Int64}
theorem st414 (W : Wf N) (nn : fm_is N 99 99 m = true) (h : HX96_settle m N) : (GX96_settle m N).2.1 414 m 0 = N.2.1 414 m 0 := by
  have g := gX96_settle m N h
  have k : WK lX96_settle N (GX96_settle m N) := wX96_settle (SL lX96_settle) (fun _ => True) (fun _ h => h) fN m N (wi_N W) trivial _ g.1
  exact congrFun (kf (f := 414) k rfl (dj_n (L := [414]) (by decide) 414 rfl) (wf_lt W (fm_ist rfl nn))).2.1 0
theorem rd414 {z : Int32} (T0 : Ty M) (W0 : Wf M) (n0 : fm_is M 99 99 m = true) (V0 : VUt m p M soft num K S) (I : VUi B p soft K S) (hw : w < 3) (hn : n < 2147483648) (hz : z4 z) :
    (GX96_read m (nI w) (lN n) z M).2.2.1 414 m 0 = M.2.1 414 m 0 := by
  obtain ⟨_, ⟨H, _⟩, _⟩ := X96_read T0 W0 n0 V0 I hw hn hz
  obtain ⟨i1, i4, i0, iK, iS, _⟩ := I
  have T := ty_94 (m := m) T0 (Int32.ofInt 0)
  have W := wf_sI (f := 394) (i := 0) (v := Int32.ofInt 0) (lo := 99) (hi := 99) W0 rfl n0
  have nn : fm_is (fm_sI M 394 m 0 (Int32.ofInt 0)) 99 99 m = true := n0
  have V := vut_94 V0 (Int32.ofInt 0)
  have p94 : (fm_sI M 394 m 0 (Int32.ofInt 0)).1 394 m 0 ≤ 0 := by rw [rI, if_pos ⟨rfl, rfl, rfl⟩]; decide
  have pr := X96_isProper (M := M) hw hn hz
  have e0 : (fm_sI M 394 m 0 (Int32.ofInt 0)).2.1 414 m 0 = M.2.1 414 m 0 := rfl
  unfold HX96_read HX96_read_0 at H
  try dsimp only at H
  rw [pr] at H
  have H16 := H.2 (show ¬ Int32.ofInt 1 = (0 : Int32) by decide)
  unfold HX96_read_16 HX96_read_67 HX96_read_94 at H16
  try dsimp only at H16
  have H1 := H16.1 p94
  unfold GX96_read GX96_read_0
  try dsimp only
  rw [pr]
  try dsimp only
  rw [fi_neg (show ¬ Int32.ofInt 1 = (0 : Int32) by decide)]
  unfold GX96_read_16 GX96_read_67 GX96_read_94
  try dsimp only
  rw [fi_pos p94]
  generalize hN : fm_sI M 394 m 0 (Int32.ofInt 0) = N at *
  rw [← e0]
  have hb : ∀ h, h < 4 → N.1 3 (N.2.2 396 m 0) h = Int32.ofInt 0 ∨ N.1 3 (N.2.2 396 m 0) h = Int32.ofInt 1 := fun h hh => by
    rw [V.1.2.1 h hh]
    exact i0 h hh
  have hc : w = 0 ∨ w = 1 ∨ w = 2 := by omega
  rcases hc with rfl | rfl | rfl
  · obtain ⟨a1, a2⟩ := X96_readTimer T nn V.1.1 i4 hn hz hb
    have h2 := (H1.1 rfl).2.1
    rw [a2] at h2
    rw [fi_pos (show nI 0 = 0 from rfl), a2]
    exact st414 W nn h2
  · have H2 := (H1.2 (by decide)).1 rfl
    rw [fi_neg (show ¬ nI 1 = 0 by decide), fi_pos (show nI 1 = Int32.ofInt 1 from rfl)]
    by_cases h4 : z = Int32.ofInt 4
    · obtain ⟨Y, ⟨y1, y2⟩, y3, y4, y5, y6⟩ := X96_readController T W nn V.1.1 i4 hn V.2.1 iK
      have nY : fm_is Y 99 99 m = true := by unfold fm_is at nn ⊢; rw [show Y.2.2 = N.2.2 from y4.1]; exact nn
      have h2 := (H2.1 h4).2.1
      rw [y2] at h2
      rw [fi_pos h4, y2]
      exact (st414 (wf_frK T W nn y4) nY h2).trans (y4.2.2 414 m 0)
    · have h2 := (H2.2 h4).1
      rw [fi_neg h4]
      exact st414 W nn h2
  · have H2 := (H1.2 (by decide)).2 (by decide)
    have c8 : 0 ≤ lg_cmp (lN n) (Int64.ofInt 8) ↔ ¬ n < 8 := (o_ge hn (show 8 < 2147483648 by decide)).trans (by omega)
    rw [fi_neg (show ¬ nI 2 = 0 by decide), fi_neg (show ¬ nI 2 = Int32.ofInt 1 by decide), o_32 hn]
    rw [o_32 hn] at H2
    by_cases h1 : z = Int32.ofInt 1
    · have H3 := H2.1 h1
      rw [fi_pos h1]
      by_cases h8 : n < 8
      · obtain ⟨Y, ⟨y1, y2⟩, y3, y4⟩ := X96_readSerial T W nn V.2.2 iS h8
        have nY : fm_is Y 99 99 m = true := by unfold fm_is at nn ⊢; rw [show Y.2.2 = N.2.2 from y4.1]; exact nn
        have h2 := (H3.2 (fun q => (c8.mp q) h8)).2.1
        rw [y2] at h2
        rw [fi_neg (fun q => (c8.mp q) h8), y2]
        exact (st414 (wf_frT T W nn y4) nY h2).trans (y4.2 414 m 0 (fun q => by omega)).2
      · have h2 := (H3.1 (c8.mpr h8)).1
        rw [fi_pos (c8.mpr h8)]
        exact st414 W nn h2
    · have h2 := (H2.2 h1).1
      rw [fi_neg h1]
      exact st414 W nn h2
end Rc
section Bc
variable {bd s d x dk q rq r m sg bl cr np B z : Nat} {Mc Mt : FM} {p : Int64}
theorem bread414 (R : RelB bd s d x dk q rq r m sg bl cr np B Mc Mt) (hp : ul p < 4611686018427387904) (hz : z4 (nI z)) (h8 : z ≤ 8) (hw : wnX p z ≠ 5) : (GX92_readWindow m p (nI z) Mt).2.2.1 414 sg 0 = Mt.2.1 414 sg 0 := by
  obtain ⟨⟨_, ⟨nm, m298, m300, m301⟩⟩, ⟨G, D⟩, E⟩ := R
  have T' := D.1.2.1.1
  have W' := D.1.2.1.2.1
  obtain ⟨hk, hi⟩ := wnX_in hw
  have ow := X92_windowOf (M := Mt) T' hp h8
  unfold wtw at ow
  rw [if_neg hw] at ow
  generalize wnX p z = k at *
  obtain ⟨n, n1, n2, n3⟩ := off_e hk hp (z4_p hz) hi
  have hb := X92_baseOf (M := Mt) hk
  obtain ⟨soft, num, K, S, ns, nsg, Vc, Vt, I⟩ := G
  unfold GX92_readWindow GX92_readWindow_0
  try dsimp only
  rw [ow.2]
  try dsimp only
  rw [hb]
  try dsimp only
  rw [n3, m301]
  by_cases c0 : k = 0
  · subst c0
    rw [fi_pos (by decide)]
    unfold GX92_readWindow_42 GX92_readWindow_75 GX92_readWindow_76
    rw [fi_neg (by decide)]
  by_cases c4 : k = 4
  · subst c4
    have n512 := n2 rfl
    rw [fi_neg (by decide), fi_pos (by decide)]
    unfold GX92_readWindow_42
    rw [fi_pos (by decide), reg_t n1 h8]
    by_cases cr_ : z = 4 ∧ n % 4 = 0 ∧ n < 512
    · rw [bz_t cr_]
      try dsimp only
      rw [fi_neg (by decide), m300, o_32 (by omega)]
      have kt' : WK lX95_read Mt (GX95_read bl (nI n) Mt).2 := wX95_read (SL lX95_read) (fun _ => True) (fun _ h => h) bl (nI n) Mt (wi_N W') trivial _ (gX95_read bl (nI n) Mt T' D.2.2.1.1).1
      exact congrFun (kf (f := 414) kt' rfl (dj_n (L := [414]) (by decide) 414 rfl) (wf_lt W' (fm_ist rfl nsg))).2.1 0
    · rw [bz_f cr_]
      try dsimp only
      rw [fi_pos (show Int32.ofInt 0 = 0 from rfl)]
      rfl
  · obtain ⟨j, hj, rfl⟩ : ∃ j, j < 3 ∧ k = j + 1 := ⟨k - 1, by omega, by omega⟩
    have rd := rd414 (n := n) T' W' nsg Vt I hj (by omega) hz
    have e : j = 0 ∨ j = 1 ∨ j = 2 := by omega
    rcases e with rfl | rfl | rfl
    · rw [fi_neg (by decide), fi_neg (by decide), show nI (0 + 1) - Int32.ofInt 1 = nI 0 from rfl]
      exact rd
    · rw [fi_neg (by decide), fi_neg (by decide), show nI (1 + 1) - Int32.ofInt 1 = nI 1 from rfl]
      exact rd
    · rw [fi_neg (by decide), fi_neg (by decide), show nI (2 + 1) - Int32.ofInt 1 = nI 2 from rfl]
      exact rd
end Bc
