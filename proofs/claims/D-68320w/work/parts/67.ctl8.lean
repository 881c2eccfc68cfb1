/-! control registers: which ones there are, on the twin's side -/
set_option maxRecDepth 100000
section Pr
variable {n : Nat} {M : FM}
theorem ui_of {c : Int} (h0 : 0 ≤ c) (h : c < 4096) : (ui (Int32.ofInt c) : Int) = c := by
  obtain ⟨k, rfl⟩ : ∃ k : Nat, c = (k : Int) := ⟨c.toNat, by omega⟩
  have : ui (Int32.ofInt (k : Int)) = k % 4294967296 := ui_nI k
  rw [this]
  omega
theorem nlt (hn : n < 4096) (c : Int) (h : 0 ≤ c ∧ c < 4096) : nI n < Int32.ofInt c ↔ (n : Int) < c := by
  have e := ui_of h.1 h.2
  rw [i_lt (by rw [ui_nI]; omega) (by omega), ui_nI]
  omega
theorem nle (hn : n < 4096) (c : Int) (h : 0 ≤ c ∧ c < 4096) : nI n ≤ Int32.ofInt c ↔ (n : Int) ≤ c := by
  have e := ui_of h.1 h.2
  rw [i_le (by rw [ui_nI]; omega) (by omega), ui_nI]
  omega
theorem nge (hn : n < 4096) (c : Int) (h : 0 ≤ c ∧ c < 4096) : Int32.ofInt c ≤ nI n ↔ c ≤ (n : Int) := by
  have e := ui_of h.1 h.2
  rw [i_le (by omega) (by rw [ui_nI]; omega), ui_nI]
  omega
theorem ngt (hn : n < 4096) (c : Int) (h : 0 ≤ c ∧ c < 4096) : Int32.ofInt c < nI n ↔ c < (n : Int) := by
  have e := ui_of h.1 h.2
  rw [i_lt (by omega) (by rw [ui_nI]; omega), ui_nI]
  omega
theorem neq (hn : n < 4096) (c : Int) (h : 0 ≤ c ∧ c < 4096) : nI n = Int32.ofInt c ↔ (n : Int) = c := by
  have e := ui_of h.1 h.2
  constructor
  · intro q
    have := congrArg ui q
    rw [ui_nI] at this
    omega
  · intro q
    apply ui_inj
    rw [ui_nI]
    omega
theorem nle0 (hn : n < 4096) : nI n ≤ 0 ↔ (n : Int) ≤ 0 := nle hn 0 (by decide)
theorem nlt0 (hn : n < 4096) : nI n < 0 ↔ (n : Int) < 0 := nlt hn 0 (by decide)
theorem i00 : Int32.ofInt 0 = 0 := rfl
theorem n10 : ¬ Int32.ofInt 1 = 0 := by decide
abbrev cnt (n : Nat) : Prop := 3072 ≤ n ∧ n < 3075
abbrev els (n : Nat) : Prop := (0 < n ∧ n < 4) ∨ n = 928 ∨ n = 930 ∨ (944 ≤ n ∧ n < 960)
abbrev sup (n : Nat) : Prop := n = 256 ∨ (260 ≤ n ∧ n < 263) ∨ (320 ≤ n ∧ n < 325) ∨ n = 384
abbrev mch (n : Nat) : Prop := (768 ≤ n ∧ n < 775) ∨ (832 ≤ n ∧ n < 837) ∨ n = 2816 ∨ n = 2818 ∨ (3857 ≤ n ∧ n < 3862)
abbrev thr (n : Nat) : Prop := mch n ∨ sup n ∨ cnt n ∨ els n
theorem X100_isCount (hn : n < 4096) : GX100_isCount (nI n) M = (bz (cnt n), M) := by
  unfold GX100_isCount GX100_isCount_0 GX100_isCount_18 GX100_isCount_19
  simp (decide := true) only [fi_if, nlt hn, nge hn]
  split
  · exact Prod.ext (bz_f (by omega)).symm rfl
  · split
    · exact Prod.ext (bz_f (by omega)).symm rfl
    · exact Prod.ext (bz_t (by omega)).symm rfl
theorem els_9 (hn : n < 4096) (h : ¬ (0 < n ∧ n < 4)) : GX100_isElsewhere_9 (nI n) M = (bz (els n), M) := by
  unfold GX100_isElsewhere_9 GX100_isElsewhere_41 GX100_isElsewhere_37 GX100_isElsewhere_42
  simp (decide := true) only [fi_if, nlt hn, nge hn, neq hn]
  split
  · exact Prod.ext (bz_t (by omega)).symm rfl
  · split
    · exact Prod.ext (bz_t (by omega)).symm rfl
    · split
      · exact Prod.ext (bz_f (by omega)).symm rfl
      · split
        · exact Prod.ext (bz_f (by omega)).symm rfl
        · exact Prod.ext (bz_t (by omega)).symm rfl
theorem X100_isElsewhere (hn : n < 4096) : GX100_isElsewhere (nI n) M = (bz (els n), M) := by
  unfold GX100_isElsewhere GX100_isElsewhere_0 GX100_isElsewhere_37 GX100_isElsewhere_42
  by_cases h : 0 < n ∧ n < 4
  · rw [fi_neg (by rw [nle0 hn]; omega), fi_pos ((nlt hn 4 (by decide)).mpr (by omega))]
    exact Prod.ext (bz_t (by omega)).symm rfl
  · rw [els_9 hn h]
    by_cases z : nI n ≤ 0
    · rw [fi_pos z]
    · have z0 : ¬ (n : Int) ≤ 0 := fun w => z ((nle0 hn).mpr w)
      rw [fi_neg z, fi_neg (fun q => h (by have := (nlt hn 4 (by decide)).mp q; omega))]
theorem th_109t (s : Int32) : GX100_isThere_109 (nI n) (Int32.ofInt 1) s M = (Int32.ofInt 1, M) := by
  unfold GX100_isThere_109
  rw [fi_neg n10]
  rfl
theorem th_109 (hn : n < 4096) {p : Prop} {s : Int32} (hs : s = bz p) : GX100_isThere_109 (nI n) (Int32.ofInt 0) s M = (bz (p ∨ cnt n ∨ els n), M) := by
  rw [hs]
  unfold GX100_isThere_109 GX100_isThere_132 GX100_isThere_137
  rw [fi_pos i00, X100_isCount hn]
  dsimp only
  rw [X100_isElsewhere hn]
  dsimp only
  by_cases hp : p
  · rw [fi_neg (fun z => bz_0.mp z hp), bz_t (c := p ∨ _) (Or.inl hp)]
  · rw [fi_pos (bz_0.mpr hp)]
    by_cases hc : cnt n
    · rw [fi_neg (fun z => bz_0.mp z hc), bz_t (c := p ∨ _) (Or.inr (Or.inl hc))]
    · rw [fi_pos (bz_0.mpr hc)]
      by_cases he : els n
      · rw [fi_neg (fun z => bz_0.mp z he), bz_t (c := p ∨ _) (Or.inr (Or.inr he))]
      · rw [fi_pos (bz_0.mpr he), bz_f (c := p ∨ _) (fun z => z.elim hp (fun y => y.elim hc he))]
theorem th_61t : GX100_isThere_61 (nI n) (Int32.ofInt 1) M = (Int32.ofInt 1, M) := by
  have h97 : GX100_isThere_97 (nI n) (Int32.ofInt 1) M = (Int32.ofInt 1, M) := by
    unfold GX100_isThere_97 GX100_isThere_104
    rw [th_109t, th_109t]
    exact fi_self
  have h83 : GX100_isThere_83 (nI n) (Int32.ofInt 1) M = (Int32.ofInt 1, M) := by
    unfold GX100_isThere_83 GX100_isThere_104
    rw [h97, th_109t, fi_self, fi_self]
  unfold GX100_isThere_61 GX100_isThere_104
  rw [h83, th_109t, fi_self, fi_self, fi_self]
theorem th_61 (hn : n < 4096) : GX100_isThere_61 (nI n) (Int32.ofInt 0) M = (bz (sup n ∨ cnt n ∨ els n), M) := by
  have h104 : ∀ q : Prop, sup n → GX100_isThere_104 (nI n) (Int32.ofInt 0) M = (bz (sup n ∨ cnt n ∨ els n), M) := fun _ hs => by
    unfold GX100_isThere_104
    rw [th_109 hn bz1]
    exact Prod.ext ((bz_t (Or.inl trivial)).trans (bz_t (Or.inl hs)).symm) rfl
  have h97 : (n = 384 ∨ ¬ sup n) → GX100_isThere_97 (nI n) (Int32.ofInt 0) M = (bz (sup n ∨ cnt n ∨ els n), M) := fun hs => by
    unfold GX100_isThere_97
    by_cases h : n = 384
    · rw [fi_pos ((neq hn 384 (by decide)).mpr (by omega)), h104 True (by omega)]
    · rw [fi_neg (fun z => h (by have := (neq hn 384 (by decide)).mp z; omega)), th_109 hn bz0]
      have hs' : ¬ sup n := hs.elim (fun z => absurd z h) id
      exact Prod.ext (congrArg bz (propext ⟨fun z => z.elim (fun f => f.elim) Or.inr, fun z => z.elim (fun f => absurd f hs') Or.inr⟩)) rfl
  have h83 : ((320 ≤ n ∧ n < 325) ∨ n = 384 ∨ ¬ sup n) → GX100_isThere_83 (nI n) (Int32.ofInt 0) M = (bz (sup n ∨ cnt n ∨ els n), M) := fun hs => by
    unfold GX100_isThere_83
    simp (decide := true) only [fi_if, nlt hn]
    split
    · exact h97 (by omega)
    · split
      · exact h104 True (by omega)
      · exact h97 (by omega)
  unfold GX100_isThere_61
  simp (decide := true) only [fi_if, nlt hn, neq hn]
  split
  · exact h104 True (by omega)
  · split
    · exact h83 (by omega)
    · split
      · exact h104 True (by omega)
      · exact h83 (by omega)
theorem X100_isThere (hn : n < 4096) : GX100_isThere (nI n) M = (bz (thr n), M) := by
  have h56 : mch n → GX100_isThere_56 (nI n) M = (bz (thr n), M) := fun h => by
    unfold GX100_isThere_56
    rw [th_61t]
    exact Prod.ext (bz_t (Or.inl h)).symm rfl
  have h60 : ¬ mch n → GX100_isThere_60 (nI n) M = (bz (thr n), M) := fun h => by
    unfold GX100_isThere_60
    rw [th_61 hn]
    exact Prod.ext (congrArg bz (propext ⟨Or.inr, fun z => z.elim (fun f => absurd f h) id⟩)) rfl
  have h28 : (¬ ((768 ≤ n ∧ n < 775) ∨ (832 ≤ n ∧ n < 837))) → GX100_isThere_28 (nI n) M = (bz (thr n), M) := fun h => by
    unfold GX100_isThere_28
    simp (decide := true) only [fi_if, nlt hn, nge hn, neq hn]
    split
    · exact h56 (by omega)
    · split
      · exact h56 (by omega)
      · split
        · exact h60 (by omega)
        · split
          · exact h60 (by omega)
          · exact h56 (by omega)
  have h14 : ¬ (768 ≤ n ∧ n < 775) → GX100_isThere_14 (nI n) M = (bz (thr n), M) := fun h => by
    unfold GX100_isThere_14
    simp (decide := true) only [fi_if, nlt hn]
    split
    · exact h28 (by omega)
    · split
      · exact h56 (by omega)
      · exact h28 (by omega)
  unfold GX100_isThere GX100_isThere_0
  simp (decide := true) only [fi_if, nlt hn]
  split
  · exact h14 (by omega)
  · split
    · exact h56 (by omega)
    · exact h14 (by omega)
end Pr
