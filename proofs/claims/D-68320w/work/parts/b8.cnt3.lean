/-! the twin's controller: the best source, what is above a limit, what waits -/
set_option maxRecDepth 100000
section Be
variable {m c : Nat} {M : FM}
/-- whether a source may be claimed in a context (above a limit) -/
def cndT (m c : Nat) (lim : Int32) (M : FM) (s : Nat) : Prop := ¬ M.1 3 (M.2.2 400 m 0) s = 0 ∧ ib (M.1 3 (M.2.2 403 m 0) c) s = true ∧ lim < M.1 3 (M.2.2 402 m 0) s
theorem X96_enables (T : Ty M) (mm : fm_is M 99 99 m = true) (hc : c < 8) {s : Nat} (hs : s < 32) : HX96_enables m (nI c) (nI s) M ∧ GX96_enables m (nI c) (nI s) M = (bz (ib (M.1 3 (M.2.2 403 m 0) c) s = true), M) := by
  unfold HX96_enables HX96_enables_0 GX96_enables GX96_enables_0 GX96_enables_19
  dsimp only
  rw [o_cl (by omega), bit_1 hs, propext bz_i1, fi_pr]
  exact ⟨⟨in_nI (tL_403 T.1 mm) hc (by decide), trivial⟩, rfl⟩
theorem X96_best_L (T : Ty M) (mm : fm_is M 99 99 m = true) (hc : c < 8) : ∀ (s j : Nat), s < 32 → s < j → ∀ (f : Nat),
    ((f = 0 ∧ ∀ s', s < s' → s' < 32 → ¬ cndT m c 0 M s') ∨
     (s < f ∧ f < 32 ∧ cndT m c 0 M f ∧ ∀ s', s < s' → s' < 32 → cndT m c 0 M s' → M.1 3 (M.2.2 402 m 0) s' ≤ M.1 3 (M.2.2 402 m 0) f ∧ (M.1 3 (M.2.2 402 m 0) s' = M.1 3 (M.2.2 402 m 0) f → f ≤ s'))) →
    ∃ b, FX96_best_L5 fN j m (nI c) (nI f) (nI s) M = some (nI b, M) ∧ isBest (cndT m c 0 M) (M.1 3 (M.2.2 402 m 0)) b := by
  intro s
  induction s with
  | zero =>
    intro j hs hj f I
    obtain ⟨j, rfl⟩ : ∃ i, j = i + 1 := ⟨j - 1, by omega⟩
    have h0 : nI 0 ≤ 0 := by decide
    refine ⟨f, ?_, ?_⟩
    · show FX96_best_5 fN (FX96_best_L5 fN j) m (nI c) (nI f) (nI 0) M = _
      rw [(gX96_best_5 _ _ _ _ _ M T mm ⟨fun _ => trivial, fun q => absurd h0 q⟩).1]
      unfold GX96_best_5
      rw [fi_pos h0]
      rfl
    · rcases I with ⟨a1, a2⟩ | ⟨a1, a2, a3, a4⟩
      · exact Or.inl ⟨a1, fun s' x1 x2 => a2 s' x1 x2⟩
      · exact Or.inr ⟨a1, a2, a3, fun s' x1 x2 => a4 s' x1 x2⟩
  | succ s ih =>
    intro j hs hj f I
    obtain ⟨j, rfl⟩ : ∃ i, j = i + 1 := ⟨j - 1, by omega⟩
    have h0 : ¬ nI (s + 1) ≤ 0 := fun q => by have := (nle0 (by omega)).mp q; omega
    have f32 : f < 32 := by
      rcases I with ⟨a1, _⟩ | ⟨_, a2, _⟩ <;> omega
    have i400 : fm_in M (M.2.2 400 m 0) (nI (s + 1)) = true := in_nI (tL_400 T.1 mm) hs (by decide)
    have i402 : fm_in M (M.2.2 402 m 0) (nI (s + 1)) = true := in_nI (tL_402 T.1 mm) hs (by decide)
    have i402f : fm_in M (M.2.2 402 m 0) (nI f) = true := in_nI (tL_402 T.1 mm) f32 (by decide)
    have en := X96_enables (c := c) T mm hc (s := s + 1) hs
    have h41 : ∀ z, HX96_best_41 m (nI c) (nI f) (nI (s + 1)) z M := fun z => ⟨fun _ => trivial, fun _ => ⟨fun _ => trivial, fun _ => ⟨i402, i402f, trivial⟩⟩⟩
    have go : ∀ f', FX96_best_5 fN (FX96_best_L5 fN j) m (nI c) (nI f) (nI (s + 1)) M = FX96_best_L5 fN j m (nI c) (nI f') (nI s) M →
      ((f' = 0 ∧ ∀ s', s < s' → s' < 32 → ¬ cndT m c 0 M s') ∨
       (s < f' ∧ f' < 32 ∧ cndT m c 0 M f' ∧ ∀ s', s < s' → s' < 32 → cndT m c 0 M s' → M.1 3 (M.2.2 402 m 0) s' ≤ M.1 3 (M.2.2 402 m 0) f' ∧ (M.1 3 (M.2.2 402 m 0) s' = M.1 3 (M.2.2 402 m 0) f' → f' ≤ s'))) →
      ∃ b, FX96_best_L5 fN (j + 1) m (nI c) (nI f) (nI (s + 1)) M = some (nI b, M) ∧ isBest (cndT m c 0 M) (M.1 3 (M.2.2 402 m 0)) b := fun f' e k => by
      obtain ⟨b, e2, e3⟩ := ih j (by omega) (by omega) f' k
      exact ⟨b, e.trans e2, e3⟩
    have hH : HX96_best_5 m (nI c) (nI f) (nI (s + 1)) M := ⟨fun q => absurd q h0, fun _ => ⟨i400, fun _ => h41 _, fun _ => ⟨en.1, by
      dsimp only
      rw [en.2]
      exact ⟨fun _ => h41 _, fun _ => ⟨i402, fun _ => h41 _, fun _ => h41 _⟩⟩⟩⟩⟩
    have eG := (gX96_best_5 (FX96_best_L5 fN j) m (nI c) (nI f) (nI (s + 1)) M T mm hH).1
    unfold GX96_best_5 at eG
    rw [fi_neg h0, en.2] at eG
    dsimp only at eG
    unfold GX96_best_40 GX96_best_41 GX96_best_71 GX96_best_67 GX96_best_72 at eG
    dsimp only at eG
    rw [o_cl (n := s + 1) (by omega), dn_1 (by omega) (by omega), show s + 1 - 1 = s by omega, fi_pos (show Int32.ofInt 0 = 0 from rfl), fi_neg (show ¬ Int32.ofInt 1 = 0 by decide), o_cl (n := f) (by omega), fi_bz] at eG
    -- not a candidate
    have keep : ¬ cndT m c 0 M (s + 1) → ((f = 0 ∧ ∀ s', s < s' → s' < 32 → ¬ cndT m c 0 M s') ∨
       (s < f ∧ f < 32 ∧ cndT m c 0 M f ∧ ∀ s', s < s' → s' < 32 → cndT m c 0 M s' → M.1 3 (M.2.2 402 m 0) s' ≤ M.1 3 (M.2.2 402 m 0) f ∧ (M.1 3 (M.2.2 402 m 0) s' = M.1 3 (M.2.2 402 m 0) f → f ≤ s'))) := fun nc => by
      rcases I with ⟨a1, a2⟩ | ⟨a1, a2, a3, a4⟩
      · refine Or.inl ⟨a1, fun s' x1 x2 => ?_⟩
        by_cases e : s' = s + 1
        · rw [e]; exact nc
        · exact a2 s' (by omega) x2
      · refine Or.inr ⟨by omega, a2, a3, fun s' x1 x2 x3 => ?_⟩
        by_cases e : s' = s + 1
        · rw [e] at x3
          exact absurd x3 nc
        · exact a4 s' (by omega) x2 x3
    by_cases c1 : M.1 3 (M.2.2 400 m 0) (s + 1) = 0
    · rw [fi_pos c1] at eG
      exact go f eG (keep (fun q => q.1 c1))
    rw [fi_neg c1] at eG
    by_cases c2 : ib (M.1 3 (M.2.2 403 m 0) c) (s + 1) = true
    · rw [fi_pos c2] at eG
      by_cases c3 : M.1 3 (M.2.2 402 m 0) (s + 1) ≤ 0
      · rw [fi_pos c3] at eG
        exact go f eG (keep (fun q => by
          have := q.2.2
          rw [lt_ti] at this
          rw [le_ti] at c3
          omega))
      rw [fi_neg c3] at eG
      have cs : cndT m c 0 M (s + 1) := ⟨c1, c2, by rw [le_ti] at c3; rw [lt_ti]; omega⟩
      by_cases f0 : nI f = 0
      · rw [fi_pos f0] at eG
        have z : f = 0 := nI_j (by omega) (by decide) f0
        refine go (s + 1) eG (Or.inr ⟨by omega, hs, cs, fun s' x1 x2 x3 => ?_⟩)
        by_cases e : s' = s + 1
        · rw [e]
          exact ⟨Int32.le_refl _, fun _ => Nat.le_refl _⟩
        · rcases I with ⟨a1, a2⟩ | ⟨a1, a2, a3, a4⟩
          · exact absurd x3 (a2 s' (by omega) x2)
          · omega
      · rw [fi_neg f0] at eG
        have fz : f ≠ 0 := fun e => f0 (by rw [e]; rfl)
        rcases I with ⟨a1, a2⟩ | ⟨a1, a2, a3, a4⟩
        · exact absurd a1 fz
        by_cases lt : M.1 3 (M.2.2 402 m 0) (s + 1) < M.1 3 (M.2.2 402 m 0) f
        · rw [fi_pos lt] at eG
          refine go f eG (Or.inr ⟨by omega, a2, a3, fun s' x1 x2 x3 => ?_⟩)
          by_cases e : s' = s + 1
          · rw [e]
            refine ⟨Int32.le_of_lt lt, fun y => ?_⟩
            rw [y] at lt
            exact (Int32.lt_irrefl lt).elim
          · exact a4 s' (by omega) x2 x3
        · rw [fi_neg lt] at eG
          refine go (s + 1) eG (Or.inr ⟨by omega, hs, cs, fun s' x1 x2 x3 => ?_⟩)
          by_cases e : s' = s + 1
          · rw [e]
            exact ⟨Int32.le_refl _, fun _ => Nat.le_refl _⟩
          · have y := (a4 s' (by omega) x2 x3).1
            rw [lt_ti] at lt
            rw [le_ti] at y ⊢
            exact ⟨by omega, fun _ => by omega⟩
    · rw [fi_neg c2] at eG
      exact go f eG (keep (fun q => c2 q.2.1))
theorem X96_best (T : Ty M) (mm : fm_is M 99 99 m = true) (hc : c < 8) : ∃ b, (HX96_best m (nI c) M ∧ GX96_best m (nI c) M = (nI b, M)) ∧ isBest (cndT m c 0 M) (M.1 3 (M.2.2 402 m 0)) b := by
  obtain ⟨b, e, k⟩ := X96_best_L T mm hc 31 fN (by decide) (by decide) 0 (Or.inl ⟨rfl, fun s' x1 x2 => by omega⟩)
  have e0 : FX96_best fN m (nI c) M = some (nI b, M) := by
    show FX96_best_0 fN (FX96_best_L5 fN fN) m (nI c) M = _
    rw [(gX96_best_0 _ _ _ M T).1]
    exact e
  exact ⟨b, op_of (P := OkR M) (d := (0, M)) e0 ⟨T, fun _ _ => ⟨rfl, rfl⟩⟩, k⟩
end Be
