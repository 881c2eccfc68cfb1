/-! the twin's controller: what is above a limit, what waits, how it settles -/
set_option maxRecDepth 100000
section Ab
variable {m c : Nat} {M : FM}
theorem X96_above_L (T : Ty M) (mm : fm_is M 99 99 m = true) (hc : c < 8) : ∀ (r s j : Nat), s + r = 32 → r < j → ∀ (P : Prop),
    FX96_above_L4 fN j m (nI c) (bz P) (nI s) M = some (bz (P ∨ ∃ s', s ≤ s' ∧ s' < 32 ∧ cndT m c (M.1 3 (M.2.2 404 m 0) c) M s'), M) := by
  intro r
  induction r with
  | zero =>
    intro s j hs hj P
    obtain ⟨j, rfl⟩ : ∃ i, j = i + 1 := ⟨j - 1, by omega⟩
    have h32 : Int32.ofInt 32 ≤ nI s := (nge (by omega) 32 (by decide)).mpr (by omega)
    show FX96_above_4 fN (FX96_above_L4 fN j) m (nI c) (bz P) (nI s) M = _
    rw [(gX96_above_4 _ _ _ _ _ M T (bz_z P) mm ⟨fun _ => trivial, fun q => absurd h32 q⟩).1]
    unfold GX96_above_4
    rw [fi_pos h32]
    show some (bz P, M) = _
    rw [bz_c (show P ↔ (P ∨ ∃ s', s ≤ s' ∧ s' < 32 ∧ cndT m c (M.1 3 (M.2.2 404 m 0) c) M s') from ⟨Or.inl, fun q => q.elim id (fun ⟨s', x1, x2, _⟩ => by omega)⟩)]
  | succ r ih =>
    intro s j hs hj P
    obtain ⟨j, rfl⟩ : ∃ i, j = i + 1 := ⟨j - 1, by omega⟩
    have h32 : ¬ Int32.ofInt 32 ≤ nI s := fun q => by have := (nge (by omega) 32 (by decide)).mp q; omega
    have i400 : fm_in M (M.2.2 400 m 0) (nI s) = true := in_nI (tL_400 T.1 mm) (by omega) (by decide)
    have i402 : fm_in M (M.2.2 402 m 0) (nI s) = true := in_nI (tL_402 T.1 mm) (by omega) (by decide)
    have i404 : fm_in M (M.2.2 404 m 0) (nI c) = true := in_nI (tL_404 T.1 mm) hc (by decide)
    have en := X96_enables (c := c) T mm hc (s := s) (by omega)
    have hH : HX96_above_4 m (nI c) (bz P) (nI s) M := ⟨fun q => absurd q h32, fun _ => ⟨fun _ => ⟨i400, fun _ => trivial, fun _ => ⟨en.1, by
      dsimp only
      rw [en.2]
      exact ⟨fun _ => trivial, fun _ => ⟨i402, i404, trivial⟩⟩⟩⟩, fun _ => trivial⟩⟩
    have eG := (gX96_above_4 (FX96_above_L4 fN j) m (nI c) (bz P) (nI s) M T (bz_z P) mm hH).1
    unfold GX96_above_4 at eG
    rw [fi_neg h32, en.2] at eG
    dsimp only at eG
    unfold GX96_above_51 GX96_above_47 GX96_above_52 at eG
    dsimp only at eG
    rw [o_cl (n := s) (by omega), o_cl (n := c) (by omega), up_1 (by omega), fi_bz, fi_bz] at eG
    have go : ∀ Q : Prop, FX96_above_4 fN (FX96_above_L4 fN j) m (nI c) (bz P) (nI s) M = FX96_above_L4 fN j m (nI c) (bz Q) (nI (s + 1)) M → (Q ↔ (P ∨ cndT m c (M.1 3 (M.2.2 404 m 0) c) M s)) →
        FX96_above_L4 fN (j + 1) m (nI c) (bz P) (nI s) M = some (bz (P ∨ ∃ s', s ≤ s' ∧ s' < 32 ∧ cndT m c (M.1 3 (M.2.2 404 m 0) c) M s'), M) := fun Q e k => by
      refine (e.trans (ih (s + 1) j (by omega) (by omega) Q)).trans ?_
      rw [bz_c]
      constructor
      · rintro (q | ⟨s', x1, x2, x3⟩)
        · rcases k.mp q with q | q
          · exact Or.inl q
          · exact Or.inr ⟨s, Nat.le_refl _, by omega, q⟩
        · exact Or.inr ⟨s', by omega, x2, x3⟩
      · rintro (q | ⟨s', x1, x2, x3⟩)
        · exact Or.inl (k.mpr (Or.inl q))
        · by_cases e : s' = s
          · rw [e] at x3
            exact Or.inl (k.mpr (Or.inr x3))
          · exact Or.inr ⟨s', by omega, x2, x3⟩
    by_cases hP : P
    · rw [fi_pos hP] at eG
      exact go True (eG.trans (by rw [bz_t trivial]; rfl)) ⟨fun _ => Or.inl hP, fun _ => trivial⟩
    rw [fi_neg hP] at eG
    have no : ¬ cndT m c (M.1 3 (M.2.2 404 m 0) c) M s → (False ↔ (P ∨ cndT m c (M.1 3 (M.2.2 404 m 0) c) M s)) := fun q => ⟨False.elim, fun z => z.elim hP q⟩
    by_cases c1 : M.1 3 (M.2.2 400 m 0) s = 0
    · rw [fi_pos c1] at eG
      exact go False (eG.trans (by rw [bz_f id]; rfl)) (no (fun q => q.1 c1))
    rw [fi_neg c1] at eG
    by_cases c2 : ib (M.1 3 (M.2.2 403 m 0) c) s = true
    · rw [fi_pos c2] at eG
      by_cases c3 : M.1 3 (M.2.2 402 m 0) s ≤ M.1 3 (M.2.2 404 m 0) c
      · rw [fi_pos c3] at eG
        exact go False (eG.trans (by rw [bz_f id]; rfl)) (no (fun q => by
          have := q.2.2
          rw [lt_ti] at this
          rw [le_ti] at c3
          omega))
      · rw [fi_neg c3] at eG
        exact go True (eG.trans (by rw [bz_t trivial]; rfl)) ⟨fun _ => Or.inr ⟨c1, c2, by rw [le_ti] at c3; rw [lt_ti]; omega⟩, fun _ => trivial⟩
    · rw [fi_neg c2] at eG
      exact go False (eG.trans (by rw [bz_f id]; rfl)) (no (fun q => c2 q.2.1))
theorem X96_above (T : Ty M) (mm : fm_is M 99 99 m = true) (hc : c < 8) : HX96_above m (nI c) M ∧ GX96_above m (nI c) M = (bz (∃ s', 1 ≤ s' ∧ s' < 32 ∧ cndT m c (M.1 3 (M.2.2 404 m 0) c) M s'), M) := by
  have e := X96_above_L T mm hc 31 1 fN (by decide) (by decide) False
  have e0 : FX96_above fN m (nI c) M = some (bz (∃ s', 1 ≤ s' ∧ s' < 32 ∧ cndT m c (M.1 3 (M.2.2 404 m 0) c) M s'), M) := by
    show FX96_above_0 fN (FX96_above_L4 fN fN) m (nI c) M = _
    rw [(gX96_above_0 _ _ _ M T).1]
    refine (Eq.trans (by rw [bz_f id]; rfl) e).trans ?_
    rw [bz_c (show (False ∨ ∃ s', 1 ≤ s' ∧ s' < 32 ∧ cndT m c (M.1 3 (M.2.2 404 m 0) c) M s') ↔ _ from ⟨fun q => q.elim False.elim id, Or.inr⟩)]
  exact op_of (P := OkZ M) (d := (0, M)) e0 ⟨T, fun _ _ => ⟨rfl, rfl⟩, bz_z _⟩
/-- what waits, as bits -/
theorem X96_waiting_L (T : Ty M) (mm : fm_is M 99 99 m = true) : ∀ (r s j : Nat), s + r = 32 → r < j → ∀ (v : Int64),
    ∃ w, FX96_waiting_L4 fN j m v (nI s) M = some (w, M) ∧ ∀ i, lb w i = (lb v i || (decide (s ≤ i) && decide (i < 32) && decide (¬ M.1 3 (M.2.2 400 m 0) i = 0))) := by
  intro r
  induction r with
  | zero =>
    intro s j hs hj v
    obtain ⟨j, rfl⟩ : ∃ i, j = i + 1 := ⟨j - 1, by omega⟩
    have h32 : Int32.ofInt 32 ≤ nI s := (nge (by omega) 32 (by decide)).mpr (by omega)
    refine ⟨v, ?_, fun i => ?_⟩
    · show FX96_waiting_4 fN (FX96_waiting_L4 fN j) m v (nI s) M = _
      rw [(gX96_waiting_4 _ _ _ _ M T mm ⟨fun _ => trivial, fun q => absurd h32 q⟩).1]
      unfold GX96_waiting_4
      rw [fi_pos h32]
      rfl
    · by_cases h : s ≤ i
      · rw [decide_eq_false (show ¬ i < 32 by omega)]
        simp
      · rw [decide_eq_false h]
        simp
  | succ r ih =>
    intro s j hs hj v
    obtain ⟨j, rfl⟩ : ∃ i, j = i + 1 := ⟨j - 1, by omega⟩
    have h32 : ¬ Int32.ofInt 32 ≤ nI s := fun q => by have := (nge (by omega) 32 (by decide)).mp q; omega
    have i400 : fm_in M (M.2.2 400 m 0) (nI s) = true := in_nI (tL_400 T.1 mm) (by omega) (by decide)
    have eG := (gX96_waiting_4 (FX96_waiting_L4 fN j) m v (nI s) M T mm ⟨fun q => absurd q h32, fun _ => ⟨i400, trivial⟩⟩).1
    unfold GX96_waiting_4 GX96_waiting_28 at eG
    rw [fi_neg h32] at eG
    dsimp only at eG
    rw [o_cl (n := s) (by omega), up_1 (by omega)] at eG
    by_cases c1 : M.1 3 (M.2.2 400 m 0) s = 0
    · rw [fi_pos c1] at eG
      obtain ⟨w, e1, e2⟩ := ih (s + 1) j (by omega) (by omega) v
      refine ⟨w, eG.trans e1, fun i => ?_⟩
      rw [e2 i]
      by_cases e : i = s
      · rw [e, decide_eq_false (show ¬ s + 1 ≤ s by omega), c1]
        simp
      · rw [decide_eq_decide.mpr (show s + 1 ≤ i ↔ s ≤ i by omega)]
    · rw [fi_neg c1] at eG
      obtain ⟨w, e1, e2⟩ := ih (s + 1) j (by omega) (by omega) (v ||| (Int64.ofInt 1 <<< ((nI s).toInt64 &&& 63)))
      refine ⟨w, eG.trans e1, fun i => ?_⟩
      rw [e2 i, lb_or, lb_shl (k := s) _ _ (by rw [ui_nI]; omega), lb_mask (k := 1) (Int64.ofInt 1) rfl]
      by_cases e : i = s
      · rw [e, decide_eq_true (show s < 64 by omega), decide_eq_true (show s - s < 1 by omega), decide_eq_true (show s < 32 by omega), decide_eq_true c1]
        simp
      · rw [decide_eq_decide.mpr (show s + 1 ≤ i ↔ s ≤ i by omega)]
        by_cases h : s ≤ i
        · rw [decide_eq_false (show ¬ i - s < 1 by omega)]
          simp
        · rw [decide_eq_false h]
          simp
theorem X96_waiting (T : Ty M) (mm : fm_is M 99 99 m = true) : ∃ w, (HX96_waiting m M ∧ GX96_waiting m M = (w, M)) ∧ ∀ i, lb w i = (decide (1 ≤ i) && decide (i < 32) && decide (¬ M.1 3 (M.2.2 400 m 0) i = 0)) := by
  obtain ⟨w, e, k⟩ := X96_waiting_L T mm 31 1 fN (by decide) (by decide) (Int64.ofInt 0)
  have e0 : FX96_waiting fN m M = some (w, M) := by
    show FX96_waiting_0 fN (FX96_waiting_L4 fN fN) m M = _
    rw [(gX96_waiting_0 _ _ M T).1]
    exact e
  refine ⟨w, op_of (P := OkR M) (d := (0, M)) e0 ⟨T, fun _ _ => ⟨rfl, rfl⟩⟩, fun i => ?_⟩
  rw [k i, lb_0]
  simp
end Ab
