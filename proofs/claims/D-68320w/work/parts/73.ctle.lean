/-! control registers: writes -/
set_option maxRecDepth 100000
noncomputable abbrev thv (x m v : Int64) : Int64 := (x &&& (m ^^^ Int64.ofInt (-1))) ||| (v &&& m)
theorem thv_b (x m v : Int64) (i : Nat) (hi : i < 64) : lb (thv x m v) i = if lb m i = true then lb v i else lb x i := by
  rw [lb_or, lb_and, lb_and, lb_xor, lb_m1 i hi]
  cases lb m i <;> simp
section Wr
variable {u d n x : Nat} {k : Int32} {Mc Mt M : FM} {v : Int64}
theorem cW_13 (h : M.2.2 0 x 0 = 13) : GX75_access_34 x v M = M := fi_pos (isT h (by decide) (by decide))
theorem cW_14 (h : M.2.2 0 x 0 = 14 ∨ M.2.2 0 x 0 = 15) : GX75_access_34 x v M = fm_sL M 41 x 0 (thv (M.2.1 41 x 0) (M.2.1 42 x 0) v) := by
  unfold GX75_access_34
  rcases h with h | h
  · rw [fi_neg (isN h (by decide)), fi_pos (isT h (by decide) (by decide))]
    rfl
  · rw [fi_neg (isN h (by decide)), fi_neg (isN h (by decide)), fi_pos (isT h (by decide) (by decide))]
    rfl
theorem cW_16 (h : M.2.2 0 x 0 = 16) : GX75_access_34 x v M = GX78_write x v M := by
  unfold GX75_access_34
  rw [fi_neg (isN h (by decide)), fi_neg (isN h (by decide)), fi_neg (isN h (by decide)), fi_pos (isT h (by decide) (by decide))]
theorem cW_17 (h : M.2.2 0 x 0 = 17) : GX75_access_34 x v M = GX82_write x v M := by
  unfold GX75_access_34
  rw [fi_neg (isN h (by decide)), fi_neg (isN h (by decide)), fi_neg (isN h (by decide)), fi_neg (isN h (by decide)), fi_pos (isT h (by decide) (by decide))]
theorem cW_19 (h : M.2.2 0 x 0 = 19) {w : Int64} (h3 : (M.2.2 0 (M.2.2 46 x 0) 0 = 13 ∧ M.2.1 40 (M.2.2 46 x 0) 0 = w) ∨ (M.2.2 0 (M.2.2 46 x 0) 0 = 14 ∧ M.2.1 41 (M.2.2 46 x 0) 0 = w)) : GX75_access_34 x v M = fm_sL M 41 (M.2.2 45 x 0) 0 (thv (M.2.1 41 (M.2.2 45 x 0) 0) (w &&& M.2.1 47 x 0) v) := by
  unfold GX75_access_34
  rw [fi_neg (isN h (by decide)), fi_neg (isN h (by decide)), fi_neg (isN h (by decide)), fi_neg (isN h (by decide)), fi_neg (isN h (by decide)), fi_neg (isN h (by decide))]
  unfold GX81_write GX81_write_0
  dsimp only
  rcases h3 with ⟨t, e⟩ | ⟨t, e⟩
  · rw [fi_pos (isT t (by decide) (by decide))]
    unfold GX76_show GX76_show_0
    rw [e]
  · rw [fi_neg (isN t (by decide)), fi_pos (isT t (by decide) (by decide))]
    unfold GX77_show GX77_show_0
    rw [e]
/-- the status behind a write -/
noncomputable def stW (x m v : Int64) : Int64 := fi (tw (thv x m v) 11 = Int32.ofInt 2) (tp2 (thv x m v) (Int32.ofInt 11) (tw x 11)) (thv x m v)
theorem c78_write (hm : tw (M.2.1 41 x 0) 11 ≠ Int32.ofInt 2) : GX78_write x v M = fm_sL M 41 x 0 (stW (M.2.1 41 x 0) (M.2.1 42 x 0) v) := by
  unfold GX78_write GX78_write_0 GX78_write_29 stW
  rw [X78_two (k := 11) rfl (by decide)]
  dsimp only
  rw [show GX77_write x v M = fm_sL M 41 x 0 (thv (M.2.1 41 x 0) (M.2.1 42 x 0) v) from rfl, X78_two (k := 11) rfl (by decide), sL_at]
  dsimp only
  by_cases h : tw (thv (M.2.1 41 x 0) (M.2.1 42 x 0) v) 11 = Int32.ofInt 2
  · rw [fi_pos h, fi_pos h, X78_putTwo (k := 11) (tw_mde hm) rfl (by decide), sL_at, sL_same]
  · rw [fi_neg h, fi_neg h]
theorem t_through {a : Int32} {m : Int64} (ha : a.toNatClampNeg = n) : GX100_through d a m v M = fm_sL M 3 (M.2.2 361 d 0) n (thv (ht M d n) m v) := by
  unfold GX100_through GX100_through_0
  dsimp only
  rw [ha]
theorem t_wstatus (m : Int64) : GX100_writeStatus d m v M = fm_sL M 3 (M.2.2 361 d 0) 768 (stW (ht M d 768) m v) := by
  unfold GX100_writeStatus GX100_writeStatus_0 GX100_writeStatus_43 stW
  rw [X100_below]
  dsimp only
  rw [t_through (n := 768) rfl, X100_below]
  dsimp only
  rw [show (fm_sL M 3 (M.2.2 361 d 0) 768 (thv (ht M d 768) m v)).2.1 3 ((fm_sL M 3 (M.2.2 361 d 0) 768 (thv (ht M d 768) m v)).2.2 361 d 0) 768 = thv (ht M d 768) m v from sL_at _ _ _ _ _]
  by_cases h : tw (thv (ht M d 768) m v) 11 = Int32.ofInt 2
  · rw [fi_pos h, fi_pos h]
    refine (X100_put2 (d := d) (b := Int32.ofInt 11) (m := tw (ht M d 768) 11) (M := fm_sL M 3 (M.2.2 361 d 0) 768 (thv (ht M d 768) m v))).trans ?_
    rw [show (fm_sL M 3 (M.2.2 361 d 0) 768 (thv (ht M d 768) m v)).2.1 3 ((fm_sL M 3 (M.2.2 361 d 0) 768 (thv (ht M d 768) m v)).2.2 361 d 0) 768 = thv (ht M d 768) m v from sL_at _ _ _ _ _]
    exact sL_same _ _ _ _ _ _
  · rw [fi_neg h, fi_neg h]
theorem tw_tp2 (x : Int64) {m : Int32} (h : mde m) : tw (tp2 x (Int32.ofInt 11) m) 11 = m := by
  have b1 : lb (tp2 x (Int32.ofInt 11) m) 11 = decide (m ≠ Int32.ofInt 0) := by
    rw [tp2_b (k := 11) h rfl (by decide) 11 (by decide), if_pos rfl]
  have b2 : lb (tp2 x (Int32.ofInt 11) m) (11 + 1) = decide (m = Int32.ofInt 3) := by
    rw [tp2_b (k := 11) h rfl (by decide) (11 + 1) (by decide), if_neg (by decide), if_pos rfl]
  rw [tw_is, b1, b2]
  rcases h with rfl | rfl | rfl
  · rw [fi_neg (by decide), fi_neg (by decide)]
  · rw [fi_pos (by decide), fi_neg (by decide)]
  · rw [fi_pos (by decide), fi_pos (by decide)]
theorem stW_tw {x : Int64} (m v : Int64) (h : tw x 11 ≠ Int32.ofInt 2) : tw (stW x m v) 11 ≠ Int32.ofInt 2 := by
  unfold stW
  by_cases c : tw (thv x m v) 11 = Int32.ofInt 2
  · rw [fi_pos c, tw_tp2 _ (tw_mde h)]
    exact h
  · rw [fi_neg c]
    exact c
theorem thv_mk {x m : Int64} (h : mkS x) (hm : ∀ i, i < 64 → lb (Int64.ofInt 8288682) i = false → lb m i = false) : mkS (thv x m v) := fun i hi q => by
  rw [thv_b _ _ _ i hi, if_neg (by rw [hm i hi q]; decide)]
  exact h i hi q
theorem stW_mk {x m : Int64} (h : mkS x) (h2 : tw x 11 ≠ Int32.ofInt 2) (hm : ∀ i, i < 64 → lb (Int64.ofInt 8288682) i = false → lb m i = false) : mkS (stW x m v) := by
  unfold stW
  by_cases c : tw (thv x m v) 11 = Int32.ofInt 2
  · rw [fi_pos c]
    exact mkS_tp2 (k := 11) (thv_mk h hm) (tw_mde h2) rfl (by decide) (by decide) (by decide)
  · rw [fi_neg c]
    exact thv_mk h hm
theorem stW_lo {x m : Int64} (h2 : tw x 11 ≠ Int32.ofInt 2) (h11 : lb m 11 = false) (h12 : lb m 12 = false) : stW x m v = thv x m v := by
  unfold stW
  have e : tw (thv x m v) 11 = tw x 11 := tw_c (by rw [thv_b _ _ _ 11 (by decide), if_neg (by rw [h11]; decide)]) (by rw [thv_b _ _ _ 12 (by decide), if_neg (by rw [h12]; decide)])
  rw [e, fi_neg h2]
theorem t_wq {q : Nat × Nat × Int64} (hq : q ∈ cH) (h : q.2.1 = 14 ∨ q.2.1 = 15) : GX100_write d (nI q.1) v M = fm_sL M 3 (M.2.2 361 d 0) q.1 (thv (ht M d q.1) q.2.2 v) := by
  simp only [cH, List.mem_cons, List.not_mem_nil, or_false] at hq
  rcases hq with rfl | rfl | rfl | rfl | rfl | rfl | rfl | rfl | rfl | rfl | rfl | rfl | rfl | rfl | rfl | rfl | rfl | rfl | rfl | rfl <;>
    first
    | exact absurd h (by decide)
    | (unfold GX100_write GX100_write_0
       repeat rw [fi_neg (by decide)]
       first
       | (rw [fi_pos (by decide)]; rfl)
       | (refine Eq.trans ?_ (congrArg (fm_sL M 3 (M.2.2 361 d 0) _) (thr_all _ v).symm); rfl))
end Wr
