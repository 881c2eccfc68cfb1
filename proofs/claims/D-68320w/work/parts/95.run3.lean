/-! the component: what is asked of a step, by the class of its action -/
set_option maxRecDepth 100000
def drunH (x r i : Nat) (len : Int32) (M : FM) : Prop := (((fm_is M 53 53 x = true → True) ∧ (¬ (fm_is M 53 53 x = true) → ((fm_is M 54 54 x = true → HX55_run x r i len M) ∧ (¬ (fm_is M 54 54 x = true) → ((fm_is M 55 55 x = true → HX56_run x r i len M) ∧ (¬ (fm_is M 55 55 x = true) → ((fm_is M 56 56 x = true → True) ∧ (¬ (fm_is M 56 56 x = true) → ((fm_is M 57 57 x = true → True) ∧ (¬ (fm_is M 57 57 x = true) → ((fm_is M 58 58 x = true → True) ∧ (¬ (fm_is M 58 58 x = true) → ((fm_is M 59 59 x = true → HX54_run x r i len M) ∧ (¬ (fm_is M 59 59 x = true) → (fm_is M 60 60 x = true ∧ HX53_run x r i len M))))))))))))))))
section Dh
variable {x r i : Nat} {len : Int32} {M : FM}
theorem drunH_53 (h : M.2.2 0 x 0 = 53) : drunH x r i len M := ⟨fun _ => trivial, fun z => absurd (isT h (by decide) (by decide)) z⟩
theorem drunH_54 (h : M.2.2 0 x 0 = 54) (q : HX55_run x r i len M) : drunH x r i len M := ⟨fun _ => trivial, fun _ => ⟨fun _ => q, fun z => absurd (isT h (by decide) (by decide)) z⟩⟩
theorem drunH_55 (h : M.2.2 0 x 0 = 55) (q : HX56_run x r i len M) : drunH x r i len M := ⟨fun _ => trivial, fun _ => ⟨fun z => absurd z (isN h (by decide)), fun _ => ⟨fun _ => q, fun z => absurd (isT h (by decide) (by decide)) z⟩⟩⟩
theorem drunH_o (h : M.2.2 0 x 0 = 56 ∨ M.2.2 0 x 0 = 57 ∨ M.2.2 0 x 0 = 58) : drunH x r i len M := by
  rcases h with h | h | h
  · exact ⟨fun _ => trivial, fun _ => ⟨fun z => absurd z (isN h (by decide)), fun _ => ⟨fun z => absurd z (isN h (by decide)), fun _ => ⟨fun _ => trivial, fun z => absurd (isT h (by decide) (by decide)) z⟩⟩⟩⟩
  · exact ⟨fun _ => trivial, fun _ => ⟨fun z => absurd z (isN h (by decide)), fun _ => ⟨fun z => absurd z (isN h (by decide)), fun _ => ⟨fun _ => trivial, fun _ => ⟨fun _ => trivial, fun z => absurd (isT h (by decide) (by decide)) z⟩⟩⟩⟩⟩
  · exact ⟨fun _ => trivial, fun _ => ⟨fun z => absurd z (isN h (by decide)), fun _ => ⟨fun z => absurd z (isN h (by decide)), fun _ => ⟨fun _ => trivial, fun _ => ⟨fun _ => trivial, fun _ => ⟨fun _ => trivial, fun z => absurd (isT h (by decide) (by decide)) z⟩⟩⟩⟩⟩⟩
theorem drunH_59 (h : M.2.2 0 x 0 = 59) (q : HX54_run x r i len M) : drunH x r i len M :=
  ⟨fun _ => trivial, fun _ => ⟨fun z => absurd z (isN h (by decide)), fun _ => ⟨fun z => absurd z (isN h (by decide)), fun _ => ⟨fun _ => trivial, fun _ => ⟨fun _ => trivial, fun _ => ⟨fun _ => trivial, fun _ => ⟨fun _ => q, fun z => absurd (isT h (by decide) (by decide)) z⟩⟩⟩⟩⟩⟩⟩
theorem drunH_60 (h : M.2.2 0 x 0 = 60) (q : HX53_run x r i len M) : drunH x r i len M :=
  ⟨fun _ => trivial, fun _ => ⟨fun z => absurd z (isN h (by decide)), fun _ => ⟨fun z => absurd z (isN h (by decide)), fun _ => ⟨fun _ => trivial, fun _ => ⟨fun _ => trivial, fun _ => ⟨fun _ => trivial, fun _ => ⟨fun z => absurd z (isN h (by decide)), fun _ => ⟨isT h (by decide) (by decide), q⟩⟩⟩⟩⟩⟩⟩⟩
end Dh
