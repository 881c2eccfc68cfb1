/-! the component: one of the five numbers that are wanted is written down -/
set_option maxRecDepth 100000
section Ru
variable {a i k j : Nat} {ans : Int32} {v : Int64} {N : FM}
theorem run_45 (T : Ty N) (n : fm_is N 63 63 a = true) (ni : fm_is N 61 61 i = true) (hx : N.2.2 0 (N.2.2 149 i 0) 0 = 53 ∨ N.2.2 0 (N.2.2 149 i 0) 0 = 57) {p q : Nat} (hp : p < 32) (h1 : N.1 152 i 0 = nI p) (hq : q < 32) (h2 : N.1 153 i 0 = nI q) (hk : k < 5)
    (hv : dwant (N.2.2 149 i 0) (N.2.2 171 a 0) i (nI k) N = (v, N)) :
    FX47_run_L45 fN (j + 1) a i ans (nI k) N = FX47_run_L45 fN j a i ans (nI (k + 1)) (fm_sL N 3 (N.2.2 175 a 0) k v) := by
  have nr := tN_171 T.1 n
  have h5 : ¬ Int32.ofInt 5 ≤ nI k := fun z => by have := (nge (by omega) 5 (by decide)).mp z; omega
  have hin : fm_in N (N.2.2 175 a 0) (nI k) = true := in_nI (tL_175 T.1 n) (by omega) (by decide)
  have up : nI k + Int32.ofInt 1 = nI (k + 1) := by
    apply ui_inj
    rw [ui_add, ui_nI, ui_nI, show ui (Int32.ofInt 1) = 1 from rfl]
    omega
  have H57 := (X57_wanted T nr (N.2.2 149 i 0) i hp h1 hq h2 (nI k)).1
  have H58 := (X58_wanted T nr (N.2.2 149 i 0) i hp h1 (nI k)).1
  have hH : HX47_run_45 a i ans (nI k) N := by
    refine ⟨fun z => absurd z h5, fun _ => ?_⟩
    unfold dwant at hv
    dsimp only
    rw [hv]
    refine ⟨?_, hin, trivial⟩
    rcases hx with t | t
    · exact ⟨fun _ => H57, fun z => absurd (isT t (by decide) (by decide)) z⟩
    · exact ⟨fun z => absurd z (isN t (by decide)), fun _ => ⟨fun z => absurd z (isN t (by decide)), fun _ => ⟨fun z => absurd z (isN t (by decide)), fun _ => ⟨fun z => absurd z (isN t (by decide)), fun _ => ⟨fun _ => H58, fun z => absurd (isT t (by decide) (by decide)) z⟩⟩⟩⟩⟩
  show FX47_run_45 fN (FX47_run_L45 fN j) a i ans (nI k) N = _
  rw [(gX47_run_45 _ _ _ _ _ N T n ni hH).1]
  unfold GX47_run_45
  rw [fi_neg h5]
  unfold dwant at hv
  dsimp only
  rw [hv]
  dsimp only
  rw [up, nI_clamp (by omega)]
  rfl
theorem run_4e (T : Ty N) (n : fm_is N 63 63 a = true) (ni : fm_is N 61 61 i = true) : FX47_run_L45 fN (j + 1) a i ans (nI 5) N = some (ans, N) := by
  have h5 : Int32.ofInt 5 ≤ nI 5 := by decide
  show FX47_run_45 fN (FX47_run_L45 fN j) a i ans (nI 5) N = _
  rw [(gX47_run_45 _ _ _ _ _ N T n ni ⟨fun _ => trivial, fun z => absurd h5 z⟩).1]
  unfold GX47_run_45 GX47_run_96
  rw [fi_pos h5]
  rfl
end Ru
