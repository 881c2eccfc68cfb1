/-! control registers: which interrupt is taken -/
set_option maxRecDepth 100000
/-- the first of six, in their order -/
noncomputable def fsP (P : Nat → Prop) : Int32 := fi (P 11) (nI 11) (fi (P 3) (nI 3) (fi (P 7) (nI 7) (fi (P 9) (nI 9) (fi (P 1) (nI 1) (fi (P 5) (nI 5) (Int32.ofInt (-1)))))))
theorem fsP_c {P Q : Nat → Prop} (h : ∀ k, k < 12 → (P k ↔ Q k)) : fsP P = fsP Q := by
  unfold fsP
  rw [propext (h 11 (by decide)), propext (h 3 (by decide)), propext (h 7 (by decide)), propext (h 9 (by decide)), propext (h 1 (by decide)), propext (h 5 (by decide))]
theorem fsP_n {P : Nat → Prop} (h : ∀ k, k < 12 → ¬ P k) : fsP P = Int32.ofInt (-1) := by
  unfold fsP
  rw [fi_neg (h 11 (by decide)), fi_neg (h 3 (by decide)), fi_neg (h 7 (by decide)), fi_neg (h 9 (by decide)), fi_neg (h 1 (by decide)), fi_neg (h 5 (by decide))]
theorem fsP_r (P : Nat → Prop) : fsP P = Int32.ofInt (-1) ∨ ∃ k, k < 12 ∧ fsP P = nI k := by
  unfold fsP
  by_cases h : P 11
  · exact Or.inr ⟨11, by decide, fi_pos h⟩
  rw [fi_neg h]
  by_cases h : P 3
  · exact Or.inr ⟨3, by decide, fi_pos h⟩
  rw [fi_neg h]
  by_cases h : P 7
  · exact Or.inr ⟨7, by decide, fi_pos h⟩
  rw [fi_neg h]
  by_cases h : P 9
  · exact Or.inr ⟨9, by decide, fi_pos h⟩
  rw [fi_neg h]
  by_cases h : P 1
  · exact Or.inr ⟨1, by decide, fi_pos h⟩
  rw [fi_neg h]
  by_cases h : P 5
  · exact Or.inr ⟨5, by decide, fi_pos h⟩
  rw [fi_neg h]
  exact Or.inl rfl
section Fi
variable {u d n x : Nat} {k : Int32} {Mc Mt M : FM}
theorem c_fst {s : Int64} (T : Ty M) (nu : fm_is M 12 12 u = true) {j i c : Nat} (hi : i < 6) (e : M.1 3 (M.2.2 24 u 0) i = nI c) (hc : c < 64) :
    FX74_first_L12 fN (j + 1) s (M.2.2 24 u 0) (Int32.ofNat 6) (nI i) M = fi (lb s c = true) (some (nI c, M)) (FX74_first_L12 fN j s (M.2.2 24 u 0) (Int32.ofNat 6) (nI (i + 1)) M) := by
  have h6 : ¬ Int32.ofNat 6 ≤ nI i := fun z => by
    have := (nge (by omega) 6 (by decide)).mp z
    omega
  have hin : fm_in M (M.2.2 24 u 0) (nI i) = true := in_nI (tL_24 T.1 nu) (by omega) (by decide)
  show FX74_first_12 fN (FX74_first_L12 fN j) _ _ _ _ _ = _
  rw [(gX74_first_12 _ _ _ _ _ M T (tN_24 T.1 nu) ⟨fun q => absurd q h6, fun _ => ⟨hin, trivial⟩⟩).1]
  unfold GX74_first_12
  rw [fi_neg h6]
  dsimp only
  rw [nI_clamp (by omega), e]
  have up : nI i + Int32.ofInt 1 = nI (i + 1) := by
    apply ui_inj
    rw [ui_add, ui_nI, ui_nI, show ui (Int32.ofInt 1) = 1 from rfl]
    omega
  rw [up]
  by_cases h : lb s c = true
  · rw [fi_pos h, fi_pos ((bit_c1 s (by rw [ui_nI]; omega) hc).mpr h)]
    rfl
  · rw [fi_neg h, fi_neg (fun z => h ((bit_c1 s (by rw [ui_nI]; omega) hc).mp z))]
    rfl
theorem c_fs6 {s : Int64} {j : Nat} (T : Ty M) (nu : fm_is M 12 12 u = true) : FX74_first_L12 fN (j + 1) s (M.2.2 24 u 0) (Int32.ofNat 6) (nI 6) M = some (Int32.ofInt (-1), M) := by
  show FX74_first_12 fN (FX74_first_L12 fN j) _ _ _ _ _ = _
  have h6 : Int32.ofNat 6 ≤ nI 6 := by decide
  rw [(gX74_first_12 _ _ _ _ _ M T (tN_24 T.1 nu) ⟨fun _ => trivial, fun q => absurd h6 q⟩).1]
  unfold GX74_first_12
  rw [fi_pos h6]
  rfl
theorem fi_some {α : Type} {p : Prop} {a b : α} : fi p (some a) (some b) = some (fi p a b) := by
  by_cases h : p
  · rw [fi_pos h, fi_pos h]
  · rw [fi_neg h, fi_neg h]
theorem fi_fst {p : Prop} {a b : Int32} {M : FM} : fi p (a, M) (b, M) = (fi p a b, M) := by
  by_cases h : p
  · rw [fi_pos h, fi_pos h]
  · rw [fi_neg h, fi_neg h]
theorem c_first (R : RelC u d k Mc Mt) (s : Int64) : HX74_first u s Mc ∧ GX74_first u s Mc = (fsP (fun c => lb s c = true), Mc) := by
  have T := R.1.1
  have nu := R.1.2.1
  obtain ⟨-, -, -, -, -, -, -, e0, e1, e2, e3, e4, e5⟩ := R.1.2.2.2
  have k1 : FX74_first fN u s Mc = some (fsP (fun c => lb s c = true), Mc) := by
    show FX74_first_0 fN (FX74_first_L12 fN fN) u s Mc = _
    rw [(gX74_first_0 _ _ _ Mc T nu).1]
    show FX74_first_L12 fN fN s (Mc.2.2 24 u 0) (Int32.ofNat (Mc.2.2 1 (Mc.2.2 24 u 0) 0)) (nI 0) Mc = _
    rw [tL_24 T.1 nu]
    obtain ⟨m, hm⟩ : ∃ m, fN = m + 1 + 1 + 1 + 1 + 1 + 1 + 1 := ⟨99999993, rfl⟩
    rw [show FX74_first_L12 fN fN = FX74_first_L12 fN (m + 1 + 1 + 1 + 1 + 1 + 1 + 1) from congrArg _ hm]
    rw [c_fst T nu (i := 0) (c := 11) (by decide) e0 (by decide), c_fst T nu (i := 0 + 1) (c := 3) (by decide) e1 (by decide), c_fst T nu (i := 0 + 1 + 1) (c := 7) (by decide) e2 (by decide), c_fst T nu (i := 0 + 1 + 1 + 1) (c := 9) (by decide) e3 (by decide), c_fst T nu (i := 0 + 1 + 1 + 1 + 1) (c := 1) (by decide) e4 (by decide), c_fst T nu (i := 0 + 1 + 1 + 1 + 1 + 1) (c := 5) (by decide) e5 (by decide)]
    rw [show nI (0 + 1 + 1 + 1 + 1 + 1 + 1) = nI 6 from rfl, c_fs6 T nu]
    simp only [fi_some, fi_fst]
    rfl
  exact op_of (P := OkR Mc) (d := (0, Mc)) k1 ⟨T, ext_r _⟩
end Fi
