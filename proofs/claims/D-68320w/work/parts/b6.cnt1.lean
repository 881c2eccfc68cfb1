/-! the controller: contexts, the best source -/
set_option maxRecDepth 100000
def cxt (p base each within n : Nat) : Option Nat := if base ≤ n ∧ (n - base) % each = within ∧ (n - base) / each < 2 * p then some ((n - base) / each) else none
theorem cxt_lt {p base each within n k : Nat} (h : cxt p base each within n = some k) : k < 2 * p := by
  unfold cxt at h
  split at h
  · have := Option.some.inj h
    omega
  · cases h
section Cn
variable {C m p n base each within : Nat} {M : FM}
theorem lN_ne {k : Nat} (h : 0 < k) (h2 : k < 2147483648) : ¬ lN k = 0 := fun e => by
  have := congrArg ul e
  rw [ul_o h2] at this
  have z : ul 0 = 0 := rfl
  omega
theorem X33_contextAt (hp : M.1 223 C 0 = nI (2 * p)) (h4 : p ≤ 4) (hn : n < 2147483648) (hb : base < 2147483648) (he : 0 < each ∧ each < 2147483648) (hw : within < 2147483648) :
    HX33_contextAt C (lN n) (nI base) (nI each) (nI within) M ∧ GX33_contextAt C (lN n) (nI base) (nI each) (nI within) M = (wC (cxt p base each within n), M) := by
  have ne := lN_ne he.1 he.2
  unfold HX33_contextAt HX33_contextAt_0 GX33_contextAt GX33_contextAt_0 GX33_contextAt_47 GX33_contextAt_48 GX33_contextAt_62
  dsimp only
  rw [hp, o_64 hb, o_64 he.2, o_64 hw, o_64 (n := 2 * p) (by omega), fi_pos (show Int32.ofInt 0 = 0 from rfl), fi_neg (show ¬ Int32.ofInt 1 = 0 by decide)]
  refine ⟨⟨ne, fun _ => trivial, fun _ => ⟨ne, trivial⟩⟩, ?_⟩
  have b1 := o_lt hn hb
  unfold cxt
  by_cases h1 : n < base
  · rw [fi_pos (b1.mpr h1), if_neg (by omega)]
    rfl
  · rw [fi_neg (fun q => h1 (b1.mp q)), o_sub hn (by omega), o_rest (by omega) he.2, o_div (by omega) he.2]
    have d : (n - base) / each ≤ n - base := Nat.div_le_self _ _
    have r : (n - base) % each ≤ n - base := Nat.mod_le _ _
    have b2 := o_eq (n := (n - base) % each) (k := within) (by omega) hw
    have b3 := o_ge (n := (n - base) / each) (k := 2 * p) (by omega) (by omega)
    by_cases h2 : (n - base) % each = within
    · rw [fi_pos (b2.mpr h2)]
      by_cases h3 : (n - base) / each < 2 * p
      · rw [fi_neg (fun q => by have := b3.mp q; omega), if_pos ⟨by omega, h2, h3⟩, o_32 (by omega)]
        rfl
      · rw [fi_pos (b3.mpr (by omega)), if_neg (fun q => h3 q.2.2)]
        rfl
    · rw [fi_neg (fun q => h2 (b2.mp q)), if_neg (fun q => h2 q.2.1)]
      rfl
theorem X96_contextAt (hp : M.1 395 m 0 = nI p) (h4 : p ≤ 4) (hn : n < 2147483648) (hb : base < 2147483648) (he : 0 < each ∧ each < 2147483648) :
    HX96_contextAt m (lN n) (lN base) (lN each) M ∧ GX96_contextAt m (lN n) (lN base) (lN each) M = (wC (cxt p base each 0 n), M) := by
  have ne := lN_ne he.1 he.2
  have i1 : ¬ Int32.ofInt 1 = 0 := by decide
  unfold HX96_contextAt HX96_contextAt_0 HX96_contextAt_40 HX96_contextAt_41 GX96_contextAt GX96_contextAt_0 GX96_contextAt_40 GX96_contextAt_41 GX96_contextAt_59
  dsimp only
  rw [hp, o_64 (n := p) (by omega), show Int64.ofInt 2 = lN 2 from rfl, show Int64.ofInt 0 = lN 0 from rfl, o_mul (n := 2) (by decide) (by omega), fi_pos (show Int32.ofInt 0 = 0 from rfl), fi_neg i1]
  refine ⟨⟨fun _ => ⟨fun _ => trivial, fun q => absurd rfl q⟩, fun _ => ⟨ne, fun _ => ⟨ne, fun _ => ⟨fun _ => trivial, fun q => absurd rfl q⟩, fun _ => ⟨fun q => absurd q i1, fun _ => ⟨ne, trivial⟩⟩⟩, fun _ => ⟨fun _ => trivial, fun q => absurd rfl q⟩⟩⟩, ?_⟩
  have b1 := o_lt hn hb
  unfold cxt
  by_cases h1 : n < base
  · rw [fi_pos (b1.mpr h1), if_neg (by omega)]
    rfl
  · rw [fi_neg (fun q => h1 (b1.mp q)), o_sub hn (by omega), o_rest (by omega) he.2, o_div (by omega) he.2]
    have d : (n - base) / each ≤ n - base := Nat.div_le_self _ _
    have r : (n - base) % each ≤ n - base := Nat.mod_le _ _
    have b2 := o_eq (n := (n - base) % each) (k := 0) (by omega) (by decide)
    have b3 := o_ge (n := (n - base) / each) (k := 2 * p) (by omega) (by omega)
    by_cases h2 : (n - base) % each = 0
    · rw [fi_pos (b2.mpr h2)]
      by_cases h3 : (n - base) / each < 2 * p
      · rw [fi_neg (fun q => by have := b3.mp q; omega), if_pos ⟨by omega, h2, h3⟩, o_32 (by omega)]
        rfl
      · rw [fi_pos (b3.mpr (by omega)), if_neg (fun q => h3 q.2.2)]
        rfl
    · rw [fi_neg (fun q => h2 (b2.mp q)), if_neg (fun q => h2 q.2.1)]
      rfl
/-- the third row of contexts, told twice -/
theorem cxt_4 : cxt p 2097152 4096 4 n = cxt p 2097156 4096 0 n := by
  unfold cxt
  by_cases h : 2097156 ≤ n ∧ (n - 2097156) % 4096 = 0 ∧ (n - 2097156) / 4096 < 2 * p
  · rw [if_pos h, if_pos (by omega), show (n - 2097152) / 4096 = (n - 2097156) / 4096 by omega]
  · rw [if_neg h, if_neg (by omega)]
end Cn
/-- the least one with the greatest number among those with P -/
def isBest (P : Nat → Prop) (pr : Nat → Int32) (b : Nat) : Prop := (b = 0 ∧ ∀ s, 1 ≤ s → s < 32 → ¬ P s) ∨ (1 ≤ b ∧ b < 32 ∧ P b ∧ ∀ s, 1 ≤ s → s < 32 → P s → pr s ≤ pr b ∧ (pr s = pr b → b ≤ s))
theorem best_u {P : Nat → Prop} {pr : Nat → Int32} {a b : Nat} (ha : isBest P pr a) (hb : isBest P pr b) : a = b := by
  rcases ha with ⟨a0, a1⟩ | ⟨a1, a2, a3, a4⟩
  · rcases hb with ⟨b0, b1⟩ | ⟨b1, b2, b3, b4⟩
    · omega
    · exact absurd b3 (a1 b b1 b2)
  · rcases hb with ⟨b0, c1⟩ | ⟨b1, b2, b3, b4⟩
    · exact absurd a3 (c1 a a1 a2)
    · obtain ⟨x1, x2⟩ := a4 b b1 b2 b3
      obtain ⟨y1, y2⟩ := b4 a a1 a2 a3
      have e : pr a = pr b := by
        rw [le_ti] at x1 y1
        exact Int32.toInt_inj.mp (by omega)
      have := x2 e.symm
      have := y2 e
      omega
