/-! the serial line: what is seen on both sides -/
set_option maxRecDepth 100000
/-- registers (0-9), what came, queue bit, overrun, emptied, what went out, how many -/
abbrev Sr : Type := (Nat → Int32) × List Int32 × Int32 × Int32 × Int32 × (Nat → Int32) × Nat
/-- how many may wait -/
def rm (qd : Int32) : Nat := if qd = 0 then 1 else 16
def VSc (L : Nat) (M : FM) (S : Sr) : Prop :=
  (∀ k, k < 10 → M.1 3 (M.2.2 235 L 0) k = S.1 k) ∧ M.1 232 L 0 = nI S.2.1.length ∧ (∃ hd, hd < 16 ∧ M.1 231 L 0 = nI hd ∧ ∀ i, i < S.2.1.length → M.1 3 (M.2.2 230 L 0) ((hd + i) % 16) = S.2.1.getD i 0) ∧
  M.1 236 L 0 = S.2.2.1 ∧ M.1 237 L 0 = S.2.2.2.1 ∧ M.1 238 L 0 = S.2.2.2.2.1 ∧ (∀ k, k < 4096 → M.1 3 (M.2.2 233 L 0) k &&& Int32.ofInt 255 = S.2.2.2.2.2.1 k) ∧ M.2.1 234 L 0 = lN S.2.2.2.2.2.2
def VSt (m : Nat) (M : FM) (S : Sr) : Prop :=
  (∀ k, k < 8 → M.1 3 (M.2.2 405 m 0) k = S.1 k) ∧ (∀ k, k < 2 → M.1 3 (M.2.2 406 m 0) k = S.1 (8 + k)) ∧ M.1 411 m 0 = nI S.2.1.length ∧ (∀ i, i < S.2.1.length → M.1 3 (M.2.2 410 m 0) i = S.2.1.getD i 0) ∧
  M.1 407 m 0 = S.2.2.1 ∧ M.1 408 m 0 = S.2.2.2.1 ∧ M.1 409 m 0 = S.2.2.2.2.1 ∧ (∀ k, k < 4096 → M.1 3 (M.2.2 412 m 0) k = S.2.2.2.2.2.1 k) ∧ M.2.1 413 m 0 = lN S.2.2.2.2.2.2
/-- what holds of them; B bounds what went out -/
def VSi (B : Nat) (S : Sr) : Prop := S.2.1.length ≤ rm S.2.2.1 ∧ (S.2.2.1 = 0 ∨ S.2.2.1 = 1) ∧ (S.2.2.2.1 = 0 ∨ S.2.2.2.1 = 1) ∧ (S.2.2.2.2.1 = 0 ∨ S.2.2.2.2.1 = 1) ∧ S.2.2.2.2.2.2 ≤ B
theorem rm_le (qd : Int32) : rm qd ≤ 16 := by unfold rm; split <;> omega
noncomputable def cs (S : Sr) : Int32 := fi (ib (S.1 1) 2 = true ∧ ¬ S.2.2.2.1 = 0) (Int32.ofInt 6) (fi (ib (S.1 1) 0 = true ∧ 0 < S.2.1.length) (Int32.ofInt 4) (fi (ib (S.1 1) 1 = true ∧ ¬ S.2.2.2.2.1 = 0) (Int32.ofInt 2) (Int32.ofInt 1)))
section Sc
variable {L m B : Nat} {M : FM} {S : Sr}
theorem X31_has (T : Ty M) (n : fm_is M 78 78 L = true) {r b : Nat} {R W : Int32} (eR : R = nI r) (eW : W = nI b) (hr : r < 10) (hb : b < 32) : HX31_has L R W M ∧ GX31_has L R W M = (bz (ib (M.1 3 (M.2.2 235 L 0) r) b = true), M) := by
  subst eR eW
  unfold HX31_has HX31_has_0 GX31_has GX31_has_0 GX31_has_19
  dsimp only
  rw [o_cl (by omega), bit_1 hb, propext bz_i1, fi_pr]
  exact ⟨⟨in_nI (tL_235 T.1 n) hr (by decide), trivial⟩, rfl⟩
theorem X96_hasBit (T : Ty M) (n : fm_is M 99 99 m = true) {r b : Nat} {R W : Int32} (eR : R = nI r) (eW : W = nI b) (hr : r < 8) (hb : b < 32) : HX96_hasBit m R W M ∧ GX96_hasBit m R W M = (bz (ib (M.1 3 (M.2.2 405 m 0) r) b = true), M) := by
  subst eR eW
  unfold HX96_hasBit HX96_hasBit_0 GX96_hasBit GX96_hasBit_0 GX96_hasBit_19
  dsimp only
  rw [o_cl (by omega), bit_1 hb, propext bz_i1, fi_pr]
  exact ⟨⟨in_nI (tL_405 T.1 n) hr (by decide), trivial⟩, rfl⟩
theorem X31_cause (T : Ty M) (n : fm_is M 78 78 L = true) (V : VSc L M S) (I : VSi B S) : HX31_cause L M ∧ GX31_cause L M = (cs S, M) := by
  have h2 := X31_has T n (R := Int32.ofInt 1) (W := Int32.ofInt 2) (r := 1) (b := 2) rfl rfl (by decide) (by decide)
  have h0 := X31_has T n (R := Int32.ofInt 1) (W := Int32.ofInt 0) (r := 1) (b := 0) rfl rfl (by decide) (by decide)
  have h1 := X31_has T n (R := Int32.ofInt 1) (W := Int32.ofInt 1) (r := 1) (b := 1) rfl rfl (by decide) (by decide)
  have hl : M.1 232 L 0 ≤ 0 ↔ ¬ 0 < S.2.1.length := by
    rw [V.2.1]
    have := rm_le S.2.2.1
    have := I.1
    exact (nle0 (by omega)).trans (by omega)
  rw [V.1 1 (by decide)] at h2 h0 h1
  unfold HX31_cause HX31_cause_0 HX31_cause_19 HX31_cause_37 GX31_cause GX31_cause_0 GX31_cause_19 GX31_cause_37 GX31_cause_57 GX31_cause_58
  dsimp only
  rw [h2.2]
  dsimp only
  rw [h0.2]
  dsimp only
  rw [h1.2]
  dsimp only
  refine ⟨⟨h2.1, fun _ => ⟨h0.1, fun _ => ⟨h1.1, trivial⟩, fun _ => ⟨fun _ => ⟨h1.1, trivial⟩, fun _ => trivial⟩⟩, fun _ => ⟨fun _ => ⟨h0.1, fun _ => ⟨h1.1, trivial⟩, fun _ => ⟨fun _ => ⟨h1.1, trivial⟩, fun _ => trivial⟩⟩, fun _ => trivial⟩⟩, ?_⟩
  unfold cs
  rw [V.2.2.2.2.1, V.2.2.2.2.2.1, propext hl, fi_bz, fi_bz, fi_bz]
  generalize (ib (S.1 1) 2 = true) = p1
  generalize (S.2.2.2.1 = 0) = p2
  generalize (ib (S.1 1) 0 = true) = p3
  generalize (0 < S.2.1.length) = p4
  generalize (ib (S.1 1) 1 = true) = p5
  generalize (S.2.2.2.2.1 = 0) = p6
  by_cases a : p1 <;> by_cases b : p2 <;> by_cases c : p3 <;> by_cases d : p4 <;> by_cases e : p5 <;> by_cases f : p6 <;>
    simp only [a, b, c, d, e, f, fi_if, not_true, not_false_iff, and_true, and_false, true_and, false_and, if_true, if_false, and_self]
theorem X96_cause (T : Ty M) (n : fm_is M 99 99 m = true) (V : VSt m M S) (I : VSi B S) : HX96_cause m M ∧ GX96_cause m M = (cs S, M) := by
  have h2 := X96_hasBit T n (R := Int32.ofInt 1) (W := Int32.ofInt 2) (r := 1) (b := 2) rfl rfl (by decide) (by decide)
  have h0 := X96_hasBit T n (R := Int32.ofInt 1) (W := Int32.ofInt 0) (r := 1) (b := 0) rfl rfl (by decide) (by decide)
  have h1 := X96_hasBit T n (R := Int32.ofInt 1) (W := Int32.ofInt 1) (r := 1) (b := 1) rfl rfl (by decide) (by decide)
  have hl : M.1 411 m 0 ≤ 0 ↔ ¬ 0 < S.2.1.length := by
    rw [V.2.2.1]
    have := rm_le S.2.2.1
    have := I.1
    exact (nle0 (by omega)).trans (by omega)
  rw [V.1 1 (by decide)] at h2 h0 h1
  unfold HX96_cause HX96_cause_0 HX96_cause_19 HX96_cause_37 GX96_cause GX96_cause_0 GX96_cause_19 GX96_cause_37 GX96_cause_57 GX96_cause_58
  dsimp only
  rw [h2.2]
  dsimp only
  rw [h0.2]
  dsimp only
  rw [h1.2]
  dsimp only
  refine ⟨⟨h2.1, fun _ => ⟨h0.1, fun _ => ⟨h1.1, trivial⟩, fun _ => ⟨fun _ => ⟨h1.1, trivial⟩, fun _ => trivial⟩⟩, fun _ => ⟨fun _ => ⟨h0.1, fun _ => ⟨h1.1, trivial⟩, fun _ => ⟨fun _ => ⟨h1.1, trivial⟩, fun _ => trivial⟩⟩, fun _ => trivial⟩⟩, ?_⟩
  unfold cs
  rw [V.2.2.2.2.2.1, V.2.2.2.2.2.2.1, propext hl, fi_bz, fi_bz, fi_bz]
  generalize (ib (S.1 1) 2 = true) = p1
  generalize (S.2.2.2.1 = 0) = p2
  generalize (ib (S.1 1) 0 = true) = p3
  generalize (0 < S.2.1.length) = p4
  generalize (ib (S.1 1) 1 = true) = p5
  generalize (S.2.2.2.2.1 = 0) = p6
  by_cases a : p1 <;> by_cases b : p2 <;> by_cases c : p3 <;> by_cases d : p4 <;> by_cases e : p5 <;> by_cases f : p6 <;>
    simp only [a, b, c, d, e, f, fi_if, not_true, not_false_iff, and_true, and_false, true_and, false_and, if_true, if_false, and_self]
end Sc
