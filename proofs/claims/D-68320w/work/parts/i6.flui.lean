/-! floats: the component's unit runs -/
set_option maxRecDepth 100000
section Rj
variable {u rg t d : Nat} {c : Nat → Nat} {M N : FM} {s : Fs} {w : Int32} {x : Int64}
theorem X59_run (o : FlU u c rg M) (v : VFc u c rg M s) (hm : s.2.2.1 < 8) : PoC u c rg (pt w 25 2) (pt w 7 5) s (fRun w x s) (HX59_run u w x M) (GX59_run u w x M) M := by
  have T := o.1.1
  have hc : pt w 0 7 < 128 := pt_lt w 0 7
  have h4 : pt w 25 2 < 4 := pt_lt w 25 2
  have le1 : (nI (pt w 25 2) ≤ Int32.ofInt 1) = (pt w 25 2 ≤ 1) := propext (by
    have := ni_le (z := 1) (k := pt w 25 2) (by omega)
    rw [this]
    omega)
  have c83 : (nI (pt w 0 7) = Int32.ofInt 83) = (pt w 0 7 = 83) := propext (ni_i (b := 83) (by omega) (by decide))
  have lt67 : (nI (pt w 0 7) < Int32.ofInt 67) = (pt w 0 7 < 67) := propext (by
    have := ni_lt (z := 67) (k := pt w 0 7) (by omega)
    rw [this]
    omega)
  have gt79 : (Int32.ofInt 79 < nI (pt w 0 7)) = (79 < pt w 0 7) := propext (by
    have := iz_lt (a := 79) (b := (pt w 0 7 : Int)) (by omega)
    rw [iz_nI, this]
    omega)
  have an3 : ((nI (pt w 0 7) &&& Int32.ofInt 3) = Int32.ofInt 3) = (pt w 0 7 % 4 = 3) := propext (by
    have e : ui (nI (pt w 0 7) &&& Int32.ofInt 3) = pt w 0 7 % 4 := by
      rw [ui_and, ni_u (by omega), show ui (Int32.ofInt 3) = 2 ^ 2 - 1 from rfl, Nat.and_two_pow_sub_one_eq_mod]
    constructor
    · intro h
      rw [h] at e
      exact e.symm
    · intro h
      apply ui_inj
      rw [e, h]
      rfl)
  unfold HX59_run HX59_run_0 GX59_run GX59_run_0 GX59_run_91 GX59_run_92
  dsimp only
  rw [p0]
  dsimp only
  rw [p25]
  dsimp only
  rw [le1, c83, lt67, gt79, an3]
  by_cases qt : pt w 25 2 ≤ 1
  · rw [fi_pos qt, o_cl (show pt w 25 2 < 2147483648 by omega), (o.1.2.2.2.2.1 _ (show pt w 25 2 < 2 by omega)).1]
    have ix : fm_in M (M.2.2 98 u 0) (nI (pt w 25 2)) = true := in_nI o.2.2.2.1 (by omega) (by decide)
    by_cases q83 : pt w 0 7 = 83
    · rw [fi_pos q83]
      exact po_h (X59_operate o v hm qt q83) (fun h => ⟨fun _ => ⟨fun _ => ⟨ix, h, trivial⟩, fun z => absurd q83 z⟩, fun z => absurd qt z⟩) rfl
    · rw [fi_neg q83]
      by_cases q67 : pt w 0 7 = 67 ∨ pt w 0 7 = 71 ∨ pt w 0 7 = 75 ∨ pt w 0 7 = 79
      · rw [fi_neg (show ¬ pt w 0 7 < 67 by omega), fi_neg (show ¬ 79 < pt w 0 7 by omega), fi_pos (show pt w 0 7 % 4 = 3 by omega)]
        have K : ∀ n, n < 4 → ((nI (pt w 0 7) - Int32.ofInt 67) >>> (Int32.ofInt 2 &&& 31)) = nI n → (1 < n ↔ 71 < pt w 0 7) → (n = 1 ∨ n = 3 ↔ pt w 0 7 = 71 ∨ pt w 0 7 = 79) → PoC u c rg (pt w 25 2) (pt w 7 5) s (fRun w x s) (HX59_fuse u w (c (10 + pt w 25 2)) ((nI (pt w 0 7) - Int32.ofInt 67) >>> (Int32.ofInt 2 &&& 31)) M) (GX59_fuse u w (c (10 + pt w 25 2)) ((nI (pt w 0 7) - Int32.ofInt 67) >>> (Int32.ofInt 2 &&& 31)) M) M := fun n hn e1 e2 e3 => by
          rw [e1]
          have r := X59_fuse o v qt hm hn w
          rw [show decide (1 < n) = decide (71 < pt w 0 7) by simp only [e2], show decide (n = 1 ∨ n = 3) = decide (pt w 0 7 = 71 ∨ pt w 0 7 = 79) by simp only [e3]] at r
          unfold fRun
          rw [if_neg (show ¬ 1 < pt w 25 2 by omega), if_pos q67]
          exact po_iw r v T
        have K2 : PoC u c rg (pt w 25 2) (pt w 7 5) s (fRun w x s) (HX59_fuse u w (c (10 + pt w 25 2)) ((nI (pt w 0 7) - Int32.ofInt 67) >>> (Int32.ofInt 2 &&& 31)) M) (GX59_fuse u w (c (10 + pt w 25 2)) ((nI (pt w 0 7) - Int32.ofInt 67) >>> (Int32.ofInt 2 &&& 31)) M) M := by
          rcases q67 with y | y | y | y
          · exact K 0 (by decide) (by rw [y]; decide) (by omega) (by omega)
          · exact K 1 (by decide) (by rw [y]; decide) (by omega) (by omega)
          · exact K 2 (by decide) (by rw [y]; decide) (by omega) (by omega)
          · exact K 3 (by decide) (by rw [y]; decide) (by omega) (by omega)
        exact po_h K2 (fun h => ⟨fun _ => ⟨fun z => absurd z q83, fun _ => ⟨fun z => absurd z (by omega), fun _ => ⟨fun z => absurd z (by omega), fun _ => ⟨fun _ => ⟨ix, h, trivial⟩, fun z => absurd (by omega) z⟩⟩⟩⟩, fun z => absurd qt z⟩) rfl
      · have eN : fRun w x s = none := by
          unfold fRun
          rw [if_neg (show ¬ 1 < pt w 25 2 by omega), if_neg q67, if_neg q83]
        rw [eN]
        by_cases y1 : pt w 0 7 < 67
        · rw [fi_pos y1]
          exact po_n ⟨⟨fun _ => ⟨fun z => absurd z q83, fun _ => ⟨fun _ => trivial, fun z => absurd y1 z⟩⟩, fun z => absurd qt z⟩, rfl⟩ v T
        · rw [fi_neg y1]
          by_cases y2 : 79 < pt w 0 7
          · rw [fi_pos y2]
            exact po_n ⟨⟨fun _ => ⟨fun z => absurd z q83, fun _ => ⟨fun z => absurd z y1, fun _ => ⟨fun _ => trivial, fun z => absurd y2 z⟩⟩⟩, fun z => absurd qt z⟩, rfl⟩ v T
          · have y3 : ¬ pt w 0 7 % 4 = 3 := by omega
            rw [fi_neg y2, fi_neg y3]
            exact po_n ⟨⟨fun _ => ⟨fun z => absurd z q83, fun _ => ⟨fun z => absurd z y1, fun _ => ⟨fun z => absurd z y2, fun _ => ⟨fun z => absurd z y3, fun _ => trivial⟩⟩⟩⟩, fun z => absurd qt z⟩, rfl⟩ v T
  · rw [fi_neg qt]
    have eN : fRun w x s = none := by
      unfold fRun
      rw [if_pos (show 1 < pt w 25 2 by omega)]
    rw [eN]
    exact po_n ⟨⟨fun z => absurd z qt, fun _ => trivial⟩, rfl⟩ v T
end Rj
