/-! the controller: the best source, both loops -/
set_option maxRecDepth 100000
section Be
variable {C : Nat} {M : FM} {src lim : Int32}
def cnd (src lim : Int32) (pr : Nat → Int32) (s : Nat) : Prop := ib src s = true ∧ lim < pr s
theorem X33_best_L (T : Ty M) (m : fm_is M 77 77 C = true) : ∀ (r s j : Nat), s + r = 32 → 1 ≤ s → r < j → ∀ (f : Nat) (mo : Int32),
    ((f = 0 ∧ mo = lim ∧ ∀ s', 1 ≤ s' → s' < s → ¬ cnd src lim (M.1 3 (M.2.2 224 C 0)) s') ∨
     (1 ≤ f ∧ f < s ∧ cnd src lim (M.1 3 (M.2.2 224 C 0)) f ∧ mo = M.1 3 (M.2.2 224 C 0) f ∧ ∀ s', 1 ≤ s' → s' < s → cnd src lim (M.1 3 (M.2.2 224 C 0)) s' → M.1 3 (M.2.2 224 C 0) s' ≤ M.1 3 (M.2.2 224 C 0) f ∧ (M.1 3 (M.2.2 224 C 0) s' = M.1 3 (M.2.2 224 C 0) f → f ≤ s'))) →
    ∃ b, FX33_best_L8 fN j C src (nI f) mo (nI s) M = some (nI b, M) ∧ isBest (cnd src lim (M.1 3 (M.2.2 224 C 0))) (M.1 3 (M.2.2 224 C 0)) b := by
  generalize hpr : M.1 3 (M.2.2 224 C 0) = pr
  intro r
  induction r with
  | zero =>
    intro s j hs h1 hj f mo I
    obtain ⟨j, rfl⟩ : ∃ i, j = i + 1 := ⟨j - 1, by omega⟩
    have h32 : Int32.ofInt 32 ≤ nI s := (nge (by omega) 32 (by decide)).mpr (by omega)
    refine ⟨f, ?_, ?_⟩
    · show FX33_best_8 fN (FX33_best_L8 fN j) C src (nI f) mo (nI s) M = _
      rw [(gX33_best_8 _ _ _ _ _ _ M T m ⟨fun _ => trivial, fun q => absurd h32 q⟩).1]
      unfold GX33_best_8
      rw [fi_pos h32]
      rfl
    · have e : s = 32 := by omega
      subst e
      rcases I with ⟨a1, a2, a3⟩ | ⟨a1, a2, a3, a4, a5⟩
      · exact Or.inl ⟨a1, a3⟩
      · exact Or.inr ⟨a1, a2, a3, a5⟩
  | succ r ih =>
    intro s j hs h1 hj f mo I
    obtain ⟨j, rfl⟩ : ∃ i, j = i + 1 := ⟨j - 1, by omega⟩
    have h32 : ¬ Int32.ofInt 32 ≤ nI s := fun q => by have := (nge (by omega) 32 (by decide)).mp q; omega
    have inn : fm_in M (M.2.2 224 C 0) (nI s) = true := in_nI (tL_224 T.1 m) (by omega) (by decide)
    have go : ∀ f' mo', FX33_best_8 fN (FX33_best_L8 fN j) C src (nI f) mo (nI s) M = FX33_best_L8 fN j C src (nI f') mo' (nI (s + 1)) M →
      ((f' = 0 ∧ mo' = lim ∧ ∀ s', 1 ≤ s' → s' < s + 1 → ¬ cnd src lim pr s') ∨
       (1 ≤ f' ∧ f' < s + 1 ∧ cnd src lim pr f' ∧ mo' = pr f' ∧ ∀ s', 1 ≤ s' → s' < s + 1 → cnd src lim pr s' → pr s' ≤ pr f' ∧ (pr s' = pr f' → f' ≤ s'))) →
      ∃ b, FX33_best_L8 fN (j + 1) C src (nI f) mo (nI s) M = some (nI b, M) ∧ isBest (cnd src lim pr) pr b := fun f' mo' e k => by
      obtain ⟨b, e2, e3⟩ := ih (s + 1) j (by omega) (by omega) (by omega) f' mo' k
      exact ⟨b, e.trans e2, e3⟩
    have hH : HX33_best_8 C src (nI f) mo (nI s) M := ⟨fun q => absurd q h32, fun _ => ⟨fun _ => ⟨inn, fun _ => trivial, fun _ => ⟨inn, trivial⟩⟩, fun _ => trivial⟩⟩
    have eG := (gX33_best_8 (FX33_best_L8 fN j) C src (nI f) mo (nI s) M T m hH).1
    unfold GX33_best_8 GX33_best_49 at eG
    rw [fi_neg h32, bit_1 (by omega), propext bz_i1] at eG
    dsimp only at eG
    rw [o_cl (by omega), up_1 (by omega), hpr] at eG
    by_cases hb : ib src s = true
    · rw [fi_pos hb] at eG
      by_cases hm : pr s ≤ mo
      · rw [fi_pos hm] at eG
        refine go f mo eG ?_
        rcases I with ⟨a1, a2, a3⟩ | ⟨a1, a2, a3, a4, a5⟩
        · refine Or.inl ⟨a1, a2, fun s' x1 x2 => ?_⟩
          by_cases e : s' = s
          · rw [e]
            intro q
            have := q.2
            rw [lt_ti] at this
            rw [le_ti, a2] at hm
            omega
          · exact a3 s' x1 (by omega)
        · refine Or.inr ⟨a1, by omega, a3, a4, fun s' x1 x2 x3 => ?_⟩
          by_cases e : s' = s
          · rw [e]
            rw [a4] at hm
            exact ⟨hm, fun _ => by omega⟩
          · exact a5 s' x1 (by omega) x3
      · rw [fi_neg hm] at eG
        refine go s (pr s) eG (Or.inr ⟨h1, by omega, ⟨hb, ?_⟩, rfl, fun s' x1 x2 x3 => ?_⟩)
        · rw [le_ti] at hm
          rw [lt_ti]
          rcases I with ⟨a1, a2, a3⟩ | ⟨a1, a2, a3, a4, a5⟩
          · rw [a2] at hm
            omega
          · have := a3.2
            rw [lt_ti] at this
            rw [a4] at hm
            omega
        · by_cases e : s' = s
          · rw [e]
            exact ⟨Int32.le_refl _, fun _ => Nat.le_refl _⟩
          · rcases I with ⟨a1, a2, a3⟩ | ⟨a1, a2, a3, a4, a5⟩
            · exact absurd x3 (a3 s' x1 (by omega))
            · have y := (a5 s' x1 (by omega) x3).1
              rw [le_ti] at y hm ⊢
              rw [a4] at hm
              exact ⟨by omega, fun e => by rw [e] at y; omega⟩
    · rw [fi_neg hb] at eG
      refine go f mo eG ?_
      rcases I with ⟨a1, a2, a3⟩ | ⟨a1, a2, a3, a4, a5⟩
      · refine Or.inl ⟨a1, a2, fun s' x1 x2 => ?_⟩
        by_cases e : s' = s
        · rw [e]
          exact fun q => hb q.1
        · exact a3 s' x1 (by omega)
      · refine Or.inr ⟨a1, by omega, a3, a4, fun s' x1 x2 x3 => ?_⟩
        by_cases e : s' = s
        · rw [e] at x3
          exact absurd x3.1 hb
        · exact a5 s' x1 (by omega) x3
theorem X33_best (T : Ty M) (m : fm_is M 77 77 C = true) (src lim : Int32) : ∃ b, (HX33_best C src lim M ∧ GX33_best C src lim M = (nI b, M)) ∧ isBest (cnd src lim (M.1 3 (M.2.2 224 C 0))) (M.1 3 (M.2.2 224 C 0)) b := by
  obtain ⟨b, e, k⟩ := X33_best_L (src := src) (lim := lim) T m 31 1 fN (by decide) (by decide) (by decide) 0 lim (Or.inl ⟨rfl, rfl, fun s' x1 x2 => by omega⟩)
  have e0 : FX33_best fN C src lim M = some (nI b, M) := by
    show FX33_best_0 fN (FX33_best_L8 fN fN) C src lim M = _
    rw [(gX33_best_0 _ _ _ _ M T).1]
    exact e
  exact ⟨b, op_of (P := OkR M) (d := (0, M)) e0 ⟨T, fun _ _ => ⟨rfl, rfl⟩⟩, k⟩
end Be
