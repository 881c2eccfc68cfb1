/-! a processor against the twin's: the half at an address -/
set_option maxRecDepth 100000
section Fv
variable {ld : Nat → Int64} {okL okS : Nat → Prop} {rt ac md : Int32} {a tb : Int64} {F T : Nat → Nat} {K : Rg} {s : Nat}
theorem wfd_c : (∀ f, (wfd ld okL okS rt ac md a tb).1 = .inl f → f = acF ac ∨ f = pgF ac) ∧ ∀ b, (wfd ld okL okS rt ac md a tb).1 = .inr b → b % 4096 = 0 ∧ b + 4096 ≤ 2 ^ 57 := by
  unfold wfd
  have p56 : (2 : Nat) ^ 56 = 72057594037927936 := by decide
  have p57 : (2 : Nat) ^ 57 = 144115188075855872 := by decide
  by_cases h : pln md tb
  · rw [fi_pos h]
    by_cases k : ul a < 2 ^ 56
    · rw [fi_pos k]
      refine ⟨fun f q => (by cases q), fun b q => ?_⟩
      cases q
      omega
    · rw [fi_neg k]
      refine ⟨fun f q => ?_, fun b q => (by cases q)⟩
      cases q
      exact Or.inl rfl
  · rw [fi_neg h]
    exact ⟨fun f q => wlk0_l q, fun b q => wlk0_b q⟩
theorem acF_g (h : acc3 ac) {v : Int64} (hv : v = acF ac ∨ v = pgF ac) : lg_cmp v (Int64.ofInt 0) < 0 ∧ ∃ k, k < 64 ∧ (-v).toInt32 = nI k := by
  have e1 : ∀ x : Int32, acF x = if x = 0 then Int64.ofInt (-1) else if x = Int32.ofInt 1 then Int64.ofInt (-5) else Int64.ofInt (-7) := fun x => by unfold acF; rw [fi_if, fi_if]
  have e2 : ∀ x : Int32, pgF x = if x = 0 then Int64.ofInt (-12) else if x = Int32.ofInt 1 then Int64.ofInt (-13) else Int64.ofInt (-15) := fun x => by unfold pgF; rw [fi_if, fi_if]
  rw [e1, e2] at hv
  rcases h with rfl | rfl | rfl <;> rcases hv with rfl | rfl
  · exact ⟨by decide, 1, by decide, by decide⟩
  · exact ⟨by decide, 12, by decide, by decide⟩
  · exact ⟨by decide, 5, by decide, by decide⟩
  · exact ⟨by decide, 13, by decide, by decide⟩
  · exact ⟨by decide, 7, by decide, by decide⟩
  · exact ⟨by decide, 15, by decide, by decide⟩
/-- what a finding gives: below 0 a fault, or an address -/
theorem fin_v (hac : acc3 ac) {v : Int64} (hv : v = finW F T K ac md s (wval (wfd ld okL okS rt ac md a tb) (ul a % 4096))) :
    (lg_cmp v (Int64.ofInt 0) < 0 ∧ (v = acF ac ∨ v = pgF ac)) ∨
    (¬ lg_cmp v (Int64.ofInt 0) < 0 ∧ ul v < 2 ^ 57 ∧ ul v % 4096 = ul a % 4096 ∧ letS F T K.1 (ul v) s ac md 8 0 ∧ ∃ b, (wfd ld okL okS rt ac md a tb).1 = .inr b ∧ v = lN (b + ul a % 4096)) := by
  obtain ⟨c1, c2⟩ := wfd_c (ld := ld) (okL := okL) (okS := okS) (rt := rt) (ac := ac) (md := md) (a := a) (tb := tb)
  have p57 : (2 : Nat) ^ 57 = 144115188075855872 := by decide
  unfold finW wval at hv
  cases e : (wfd ld okL okS rt ac md a tb).1 with
  | inl f =>
    rw [e] at hv
    have hf := c1 f e
    have g := (acF_g hac hf).1
    dsimp only at hv
    rw [fi_pos g] at hv
    subst hv
    exact Or.inl ⟨g, hf⟩
  | inr b =>
    rw [e] at hv
    obtain ⟨b1, b2⟩ := c2 b e
    have hl : ul a % 4096 < 4096 := Nat.mod_lt _ (by decide)
    have eu : ul (lN (b + ul a % 4096)) = b + ul a % 4096 := by
      rw [ul_lN]
      omega
    have hn : ¬ lg_cmp (lN (b + ul a % 4096)) (Int64.ofInt 0) < 0 := by
      rw [cl_lt, tl, eu, if_pos (by omega), show (Int64.ofInt 0).toInt = 0 from rfl]
      omega
    dsimp only at hv
    rw [fi_neg hn] at hv
    by_cases k : letS F T K.1 (ul (lN (b + ul a % 4096))) s ac md 8 0
    · rw [fi_pos k] at hv
      subst hv
      exact Or.inr ⟨hn, by rw [eu]; omega, by rw [eu]; omega, k, b, rfl, rfl⟩
    · rw [fi_neg k] at hv
      subst hv
      exact Or.inl ⟨(acF_g hac (Or.inl rfl)).1, Or.inl rfl⟩
end Fv
