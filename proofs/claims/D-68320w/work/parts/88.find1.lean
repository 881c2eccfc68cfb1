/-! the component: instructions that are kept -/
set_option maxRecDepth 100000
theorem dec_tr {c i : Nat} {w : Int32} {M N : FM} (hI : ∀ f j, N.1 f i j = M.1 f i j) (hL : ∀ f j, N.2.1 f i j = M.2.1 f i j) (hR : ∀ f j, N.2.2 f i j = M.2.2 f i j) (hc : ∀ f j, N.2.2 f c j = M.2.2 f c j) (D : Dec c i w M) : Dec c i w N := by
  unfold Dec DA dAcc dFor dCmp dJmp act at *
  simp only [hI, hL, hR, hc]
  exact D
/-- what is kept: each for its own word, no two places alike -/
def KpI (a : Nat) (M : FM) : Prop := (∀ p, p < 64 → M.2.2 3 (M.2.2 173 a 0) p = 0 ∨ (fm_is M 61 61 (M.2.2 3 (M.2.2 173 a 0) p) = true ∧ Dec (M.2.2 172 a 0) (M.2.2 3 (M.2.2 173 a 0) p) (M.1 150 (M.2.2 3 (M.2.2 173 a 0) p) 0) M)) ∧
  (∀ p q, p < 64 → q < 64 → M.2.2 3 (M.2.2 173 a 0) p ≠ 0 → M.2.2 3 (M.2.2 173 a 0) p = M.2.2 3 (M.2.2 173 a 0) q → p = q)
def plc (w : Int32) : Int32 := ((((w ^^^ (w.toUInt32 >>> ((Int32.ofInt 7).toUInt32 &&& Int32.toUInt32 31)).toInt32) ^^^ (w.toUInt32 >>> ((Int32.ofInt 15).toUInt32 &&& Int32.toUInt32 31)).toInt32) ^^^ (w.toUInt32 >>> ((Int32.ofInt 23).toUInt32 &&& Int32.toUInt32 31)).toInt32) &&& (Int32.ofInt 63))
theorem plc_lt (w : Int32) : ui (plc w) < 64 := by
  unfold plc
  rw [ui_and]
  have : ui (Int32.ofInt 63) = 63 := rfl
  rw [this]
  exact Nat.lt_of_le_of_lt Nat.and_le_right (by decide)
section Fd
variable {a c j : Nat} {w : Int32} {M N : FM}
/-- one that was kept is read anew -/
theorem kp_read (T : Ty M) (n : fm_is M 63 63 a = true) (K : KpI a M) {p : Nat} (hp : p < 64) (hj : M.2.2 3 (M.2.2 173 a 0) p = j) (h0 : j ≠ 0) (nc : fm_is M 62 62 (M.2.2 172 a 0) = true) (F : Dfr j M N) (D : Dec (M.2.2 172 a 0) j w N) : KpI a N := by
  have e173 : N.2.2 173 a 0 = M.2.2 173 a 0 := (F 173 a 0 (fun _ => by omega)).2.2
  have e172 : N.2.2 172 a 0 = M.2.2 172 a 0 := (F 172 a 0 (fun _ => by omega)).2.2
  have e3 : ∀ b i, N.2.2 3 b i = M.2.2 3 b i := fun b i => (F 3 b i (fun _ => by omega)).2.2
  have e0 : ∀ b, N.2.2 0 b 0 = M.2.2 0 b 0 := fun b => (F 0 b 0 (fun _ => by omega)).2.2
  have nj : fm_is M 61 61 j = true := by
    rcases K.1 p hp with h | h
    · exact absurd (hj.symm.trans h) h0
    · rw [hj] at h
      exact h.1
  have hcj : M.2.2 172 a 0 ≠ j := fun e => by
    rw [e] at nc
    have h1 := fm_isd nc
    have h2 := fm_isd nj
    omega
  constructor
  · intro q hq
    rw [e173, e172, e3]
    rcases K.1 q hq with h | ⟨h1, h2⟩
    · exact Or.inl h
    · refine Or.inr ⟨?_, ?_⟩
      · unfold fm_is at h1 ⊢
        rw [e0]
        exact h1
      · by_cases e : M.2.2 3 (M.2.2 173 a 0) q = j
        · rw [e, D.1]
          exact D
        · have g : ∀ f i, N.1 f (M.2.2 3 (M.2.2 173 a 0) q) i = M.1 f (M.2.2 3 (M.2.2 173 a 0) q) i := fun f i => (F f _ i (fun y => absurd y e)).1
          rw [g]
          exact dec_tr g (fun f i => (F f _ i (fun y => absurd y e)).2.1) (fun f i => (F f _ i (fun y => absurd y e)).2.2) (fun f i => (F f _ i (fun y => absurd y hcj)).2.2) h2
  · intro q q' hq hq'
    rw [e173, e3, e3]
    exact K.2 q q' hq hq'
end Fd
