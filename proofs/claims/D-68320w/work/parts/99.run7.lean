/-! the component: an integer instruction as a whole -/
set_option maxRecDepth 100000
section Rv
variable {a : Nat} {M N : FM}
/-- what is kept moves along -/
theorem kp_tr (h61 : ∀ b, M.2.2 0 b 0 = 61 → ∀ f j, N.1 f b j = M.1 f b j ∧ N.2.1 f b j = M.2.1 f b j ∧ N.2.2 f b j = M.2.2 f b j) (h173 : N.2.2 173 a 0 = M.2.2 173 a 0) (h172 : N.2.2 172 a 0 = M.2.2 172 a 0)
    (hc : ∀ f j, N.2.2 f (M.2.2 172 a 0) j = M.2.2 f (M.2.2 172 a 0) j) (h3 : ∀ p, N.2.2 3 (M.2.2 173 a 0) p = M.2.2 3 (M.2.2 173 a 0) p) (K : KpI a M) : KpI a N := by
  unfold KpI
  rw [h173, h172]
  simp only [h3]
  refine ⟨fun p hp => ?_, K.2⟩
  rcases K.1 p hp with h | ⟨h, D⟩
  · exact Or.inl h
  · right
    have t : M.2.2 0 (M.2.2 3 (M.2.2 173 a 0) p) 0 = 61 := by have := fm_isd h; omega
    have e := h61 _ t
    refine ⟨by unfold fm_is at h ⊢; rw [(e 0 0).2.2]; exact h, ?_⟩
    rw [(e 150 0).1]
    exact dec_tr (fun f j => (e f j).1) (fun f j => (e f j).2.1) (fun f j => (e f j).2.2) hc D
theorem decT_tr {c : Nat} (h1 : ∀ b, M.2.2 0 b 0 = 59 ∨ M.2.2 0 b 0 = 60 ∨ (53 ≤ M.2.2 0 b 0 ∧ M.2.2 0 b 0 ≤ 58) → N.1 147 b 0 = M.1 147 b 0 ∧ N.1 148 b 0 = M.1 148 b 0 ∧ N.2.2 0 b 0 = M.2.2 0 b 0) (h2 : ∀ f, 161 ≤ f → f ≤ 170 → N.2.2 f c 0 = M.2.2 f c 0) (D : DecT c M) : DecT c N := by
  unfold DecT at *
  rw [h2 161 (by decide) (by decide), h2 162 (by decide) (by decide), h2 163 (by decide) (by decide), h2 164 (by decide) (by decide), h2 165 (by decide) (by decide), h2 166 (by decide) (by decide), h2 167 (by decide) (by decide), h2 168 (by decide) (by decide), h2 169 (by decide) (by decide), h2 170 (by decide) (by decide)]
  obtain ⟨d1, d2, d3, d4, d5, d6, d7, d8, d9, d10⟩ := D
  have q1 := h1 _ (Or.inr (Or.inr (by rw [d1]; decide)))
  have q2 := h1 _ (Or.inr (Or.inr (by rw [d2]; decide)))
  have q3 := h1 _ (Or.inr (Or.inl d3.1))
  have q4 := h1 _ (Or.inr (Or.inl d4.1))
  have q5 := h1 _ (Or.inl d5.1)
  have q6 := h1 _ (Or.inl d6.1)
  have q7 := h1 _ (Or.inr (Or.inr (by rw [d7]; decide)))
  have q8 := h1 _ (Or.inr (Or.inr (by rw [d8]; decide)))
  have q9 := h1 _ (Or.inr (Or.inr (by rw [d9]; decide)))
  have q10 := h1 _ (Or.inr (Or.inr (by rw [d10]; decide)))
  rw [q1.2.2, q2.2.2, q3.2.2, q3.2.1, q4.2.2, q4.2.1, q5.2.2, q5.1, q6.2.2, q6.1, q7.2.2, q8.2.2, q9.2.2, q10.2.2]
  exact ⟨d1, d2, d3, d4, d5, d6, d7, d8, d9, d10⟩
end Rv
/-- the kinds of what an instruction gives -/
theorem cx_P {P : CR → Prop} (R : Nat → Int64) (pc : Int64) (w len : Int32) (h1 : ∀ o d nx, P (cval o d nx pc)) (h2 : P (cill pc)) (h3 : ∀ o, P (cwt o pc)) (h4 : ∀ d v to, P (Int32.ofInt 0, d, v, to, none)) (h5 : ∀ to, P (Int32.ofInt 1, 0, Int64.ofInt 0, to, none)) : P (cx R pc w len) := by
  have F : ∀ {c : Prop} {t e : CR}, P t → P e → P (fi c t e) := by
    intro c t e h k
    by_cases q : c
    · rw [fi_pos q]
      exact h
    · rw [fi_neg q]
      exact k
  unfold cx
  exact F (h1 _ _ _) (F (h1 _ _ _) (F (h1 _ _ _) (F (h1 _ _ _) (F (h1 _ _ _) (F (h1 _ _ _) (F (F h2 (h4 _ _ _)) (F (F (h4 _ _ _) h2) (F (h4 _ _ _) (F (F h2 (h5 _)) (h3 _))))))))))
theorem cx_none {R : Nat → Int64} {pc : Int64} {w len : Int32} (h : (cx R pc w len).2.2.2.2 = none) : (cx R pc w len).1 = Int32.ofInt (-1) ∨ (cx R pc w len).1 = Int32.ofInt 0 ∨ (cx R pc w len).1 = Int32.ofInt 1 := by
  revert h
  refine cx_P (P := fun z => z.2.2.2.2 = none → z.1 = Int32.ofInt (-1) ∨ z.1 = Int32.ofInt 0 ∨ z.1 = Int32.ofInt 1) R pc w len (fun o d nx _ => ?_) (fun _ => Or.inl rfl) (fun o e => ?_) (fun _ _ _ _ => Or.inr (Or.inl rfl)) (fun _ _ => Or.inr (Or.inr rfl))
  · cases o
    · exact Or.inl rfl
    · exact Or.inr (Or.inl rfl)
  · cases o
    · exact Or.inl rfl
    · cases e
theorem cx_some {R : Nat → Int64} {pc : Int64} {w len : Int32} {q : Wt} (h : (cx R pc w len).2.2.2.2 = some q) : cx R pc w len = cwt (some q) pc := by
  revert h
  refine cx_P (P := fun z => z.2.2.2.2 = some q → z = cwt (some q) pc) R pc w len (fun o d nx e => ?_) (fun e => by cases e) (fun o e => ?_) (fun _ _ _ e => by cases e) (fun _ e => by cases e)
  · cases o <;> cases e
  · cases o
    · cases e
    · cases e
      rfl
theorem nis {M : FM} {a b l1 h1 l2 h2 : Nat} (x : fm_is M l1 h1 a = true) (y : fm_is M l2 h2 b = true) (h : Nat.blt h1 l2 = true ∨ Nat.blt h2 l1 = true) : a ≠ b := fun e => by
  rw [e] at x
  have p := fm_isd x
  have q := fm_isd y
  rcases h with h | h
  · have := Nat.le_of_ble_eq_true h
    omega
  · have := Nat.le_of_ble_eq_true h
    omega
/-- only what belongs to the unit itself is written -/
def Ro (a : Nat) (N X : FM) : Prop := (∀ f b j, ¬ (f = 176 ∧ b = a) → X.1 f b j = N.1 f b j) ∧ (∀ f b j, ¬ (f = 174 ∧ b = a) → X.2.2 f b j = N.2.2 f b j) ∧ (∀ f b j, N.2.2 0 b 0 = 61 → X.2.1 f b j = N.2.1 f b j)
section Ro
variable {a c i : Nat} {w : Int32} {N X : FM}
theorem ro_dec (h : Ro a N X) (ha : N.2.2 0 a 0 = 63) (hc : c ≠ a) (hi : N.2.2 0 i 0 = 61) (D : Dec c i w N) : Dec c i w X := by
  have ia : i ≠ a := fun e => by rw [e, ha] at hi; cases hi
  exact dec_tr (fun f j => h.1 f i j (fun z => ia z.2)) (fun f j => h.2.2 f i j hi) (fun f j => h.2.1 f i j (fun z => ia z.2)) (fun f j => h.2.1 f c j (fun z => hc z.2)) D
theorem ro_kp (h : Ro a N X) (ha : N.2.2 0 a 0 = 63) (hc : N.2.2 172 a 0 ≠ a) (K : KpI a N) : KpI a X :=
  kp_tr (fun b hb f j => ⟨h.1 f b j (fun z => by rw [z.2, ha] at hb; cases hb), h.2.2 f b j hb, h.2.1 f b j (fun z => by rw [z.2, ha] at hb; cases hb)⟩) (h.2.1 173 a 0 (by omega)) (h.2.1 172 a 0 (by omega)) (fun f j => h.2.1 f _ j (fun z => hc z.2)) (fun p => h.2.1 3 _ p (by omega)) K
theorem ro_dt (h : Ro a N X) (hc : c ≠ a) (D : DecT c N) : DecT c X :=
  decT_tr (fun b _ => ⟨h.1 147 b 0 (by omega), h.1 148 b 0 (by omega), h.2.1 0 b 0 (by omega)⟩) (fun f _ _ => h.2.1 f c 0 (fun z => hc z.2)) D
theorem ro_od (h : Ro a N X) (O : Od N) : Od X := fun k h1 h2 => (h.1 10 k 0 (by omega)).trans (O k h1 h2)
theorem ro_is {lo hi b : Nat} (h : Ro a N X) (g : fm_is N lo hi b = true) : fm_is X lo hi b = true := by
  unfold fm_is at g ⊢
  rw [h.2.1 0 b 0 (by omega)]
  exact g
end Ro
