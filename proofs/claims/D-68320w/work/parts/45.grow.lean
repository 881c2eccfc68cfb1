/-! types where something new is made; elements of rows of objects -/
set_option maxRecDepth 100000
theorem fr_i {R : Nat → Nat → Nat → Nat} {lo hi a : Nat} : fr R lo hi a = true ↔ lo ≤ R 0 a 0 ∧ R 0 a 0 ≤ hi := by
  unfold fr
  rw [Bool.and_eq_true, Nat.ble_eq, Nat.ble_eq]
theorem tyR_elem {R R' : Nat → Nat → Nat → Nat} {a i v t : Nat} (T : TyR R) (he : ∀ f b j, ¬ (f = 3 ∧ b = a ∧ j = i) → R' f b j = R f b j) (hv : R' 3 a i = v) (ht : R 0 a 0 = t) (hN : ∀ q ∈ ty_EN, q.1 = t → fr R q.2.1 q.2.2 v = true) (hZ : ∀ q ∈ ty_EZ, q.1 = t → v ≠ 0 → fr R q.2.1 q.2.2 v = true) : TyR R' := by
  obtain ⟨h1, h2, h3, h4, h5, h6, h9, h10⟩ := T
  have e0 : ∀ f b j, f ≠ 3 → R' f b j = R f b j := fun f b j hf => he f b j (fun q => hf q.1)
  have ei : ∀ lo hi b, fr R' lo hi b = fr R lo hi b := by
    intro lo hi b
    unfold fr
    rw [e0 0 b 0 (by decide)]
  have hfN : ∀ q ∈ ty_N, q.2.2.1 ≠ 3 := by decide
  have hfZ : ∀ q ∈ ty_Z, q.2.2.1 ≠ 3 := by decide
  have hfL : ∀ q ∈ ty_L, q.2.2.1 ≠ 3 := by decide
  refine ⟨fun q hq b hb => ?_, fun q hq b hb hn => ?_, fun q hq b hb => ?_, fun q hq b j hb hj => ?_, fun q hq b j hb hj hn => ?_, fun q hq => ?_, fun b hb => ?_, fun b hb => ?_⟩
  · rw [ei] at hb ⊢
    rw [e0 _ _ _ (hfN q hq)]
    exact h1 q hq b hb
  · rw [ei] at hb ⊢
    rw [e0 _ _ _ (hfZ q hq)] at hn ⊢
    exact h2 q hq b hb hn
  · rw [ei] at hb
    rw [e0 _ _ _ (hfL q hq), e0 1 _ _ (by decide)]
    exact h3 q hq b hb
  · rw [ei] at hb ⊢
    rw [e0 1 _ _ (by decide)] at hj
    by_cases c : b = a ∧ j = i
    · obtain ⟨rfl, rfl⟩ := c
      rw [hv]
      refine hN q hq ?_
      have := fr_i.mp hb
      rw [ht] at this
      omega
    · rw [he 3 b j (fun z => c z.2)]
      exact h4 q hq b j hb hj
  · rw [ei] at hb ⊢
    rw [e0 1 _ _ (by decide)] at hj
    by_cases c : b = a ∧ j = i
    · obtain ⟨rfl, rfl⟩ := c
      rw [hv] at hn ⊢
      refine hZ q hq ?_ hn
      have := fr_i.mp hb
      rw [ht] at this
      omega
    · rw [he 3 b j (fun z => c z.2)] at hn ⊢
      exact h5 q hq b j hb hj hn
  · rw [e0 0 _ _ (by decide)]
    exact h6 q hq
  · rw [ei] at hb
    exact h9 b hb
  · rw [ei] at hb
    exact h10 b hb
theorem tyR_grow {R R' : Nat → Nat → Nat → Nat} {N : Nat} (T : TyR R) (hN : 1000 ≤ N) (he : ∀ f a i, a < N → f ≠ 2 → R' f a i = R f a i) (hz : ∀ a, N ≤ a → R 0 a 0 = 0)
    (n1 : ∀ q ∈ ty_N, ∀ a, N ≤ a → fr R' q.1 q.2.1 a = true → fr R' q.2.2.2.1 q.2.2.2.2 (R' q.2.2.1 a 0) = true)
    (n2 : ∀ q ∈ ty_Z, ∀ a, N ≤ a → fr R' q.1 q.2.1 a = true → R' q.2.2.1 a 0 ≠ 0 → fr R' q.2.2.2.1 q.2.2.2.2 (R' q.2.2.1 a 0) = true)
    (n3 : ∀ q ∈ ty_L, ∀ a, N ≤ a → fr R' q.1 q.2.1 a = true → R' 1 (R' q.2.2.1 a 0) 0 = q.2.2.2)
    (n4 : ∀ q ∈ ty_EN, ∀ a, N ≤ a → ¬ fr R' q.1 q.1 a = true) (n5 : ∀ q ∈ ty_EZ, ∀ a, N ≤ a → ¬ fr R' q.1 q.1 a = true) (n6 : ∀ a, N ≤ a → ¬ fr R' 1 6 a = true) : TyR R' := by
  obtain ⟨h1, h2, h3, h4, h5, h6, h9, h10⟩ := T
  have p1 : ∀ q ∈ ty_N, 1 ≤ q.2.2.2.1 ∧ 4 ≤ q.2.2.1 := by decide
  have p2 : ∀ q ∈ ty_Z, 1 ≤ q.2.2.2.1 ∧ 4 ≤ q.2.2.1 := by decide
  have p4 : ∀ q ∈ ty_EN, 1 ≤ q.2.1 := by decide
  have p5 : ∀ q ∈ ty_EZ, 1 ≤ q.2.1 := by decide
  have pl : ∀ q ∈ ty_L, q.2.2.2 ≠ 0 ∧ 4 ≤ q.2.2.1 := by decide
  have lt : ∀ lo hi a, 1 ≤ lo → fr R lo hi a = true → a < N := by
    intro lo hi a hlo h
    have := fr_i.mp h
    rcases Nat.lt_or_ge a N with q | q
    · exact q
    · have := hz a q
      omega
  have ei : ∀ lo hi a, a < N → fr R' lo hi a = fr R lo hi a := by
    intro lo hi a h
    unfold fr
    rw [he 0 a 0 h (by decide)]
  refine ⟨fun q hq b hb => ?_, fun q hq b hb hn => ?_, fun q hq b hb => ?_, fun q hq b j hb hj => ?_, fun q hq b j hb hj hn => ?_, fun q hq => ?_, fun b hb => ?_, fun b hb => ?_⟩
  · rcases Nat.lt_or_ge b N with hl | hl
    · rw [ei _ _ _ hl] at hb
      have k := h1 q hq b hb
      rw [he _ _ _ hl (by have := (p1 q hq).2; omega)]
      rw [ei _ _ _ (lt _ _ _ (p1 q hq).1 k)]
      exact k
    · exact n1 q hq b hl hb
  · rcases Nat.lt_or_ge b N with hl | hl
    · rw [ei _ _ _ hl] at hb
      rw [he _ _ _ hl (by have := (p2 q hq).2; omega)] at hn ⊢
      have k := h2 q hq b hb hn
      rw [ei _ _ _ (lt _ _ _ (p2 q hq).1 k)]
      exact k
    · exact n2 q hq b hl hb hn
  · rcases Nat.lt_or_ge b N with hl | hl
    · rw [ei _ _ _ hl] at hb
      have k := h3 q hq b hb
      rw [he _ _ _ hl (by have := (pl q hq).2; omega)]
      by_cases hc : R q.2.2.1 b 0 < N
      · rw [he _ _ _ hc (by decide)]
        exact k
      · exact absurd (h3 q hq b hb) (fun e => by
          -- what a field of an array holds was made
          have hm : ∀ z ∈ ty_L, (∃ y ∈ ty_N, y.1 ≤ z.1 ∧ z.2.1 ≤ y.2.1 ∧ y.2.2.1 = z.2.2.1) := by decide
          obtain ⟨y, hy, a1, a2, a3⟩ := hm q hq
          have hb' := fr_i.mp hb
          have k2 := h1 y hy b (fr_i.mpr ⟨by omega, by omega⟩)
          rw [a3] at k2
          exact hc (lt _ _ _ (p1 y hy).1 k2))
    · exact n3 q hq b hl hb
  · rcases Nat.lt_or_ge b N with hl | hl
    · rw [ei _ _ _ hl] at hb
      rw [he _ _ _ hl (by decide)] at hj ⊢
      have k := h4 q hq b j hb hj
      rw [ei _ _ _ (lt _ _ _ (p4 q hq) k)]
      exact k
    · exact absurd hb (n4 q hq b hl)
  · rcases Nat.lt_or_ge b N with hl | hl
    · rw [ei _ _ _ hl] at hb
      rw [he _ _ _ hl (by decide)] at hj hn ⊢
      have k := h5 q hq b j hb hj hn
      rw [ei _ _ _ (lt _ _ _ (p5 q hq) k)]
      exact k
    · exact absurd hb (n5 q hq b hl)
  · have hq4 : ∀ z ∈ ty_C, z.1 < 1000 := by decide
    rw [he _ _ _ (by have := hq4 q hq; omega) (by decide)]
    exact h6 q hq
  · rcases Nat.lt_or_ge b N with hl | hl
    · rw [ei _ _ _ hl] at hb
      exact h9 b hb
    · exact absurd hb (n6 b hl)
  · rcases Nat.lt_or_ge b N with hl | hl
    · rw [ei _ _ _ hl] at hb
      exact h10 b hb
    · omega
