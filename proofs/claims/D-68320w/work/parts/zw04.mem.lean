/-! memory: what stores and new things leave of the relation -/
theorem fs_cell_cg {E : FE} {M M' : FM} {H H' : Heap} {b t : Nat} (h : fs_cell E M H b t) (h1 : ∀ f i : Nat, M'.1 f b i = M.1 f b i ∧ M'.2.1 f b i = M.2.1 f b i ∧ M'.2.2 f b i = M.2.2 f b i) (h2 : H'[fs_ra E b]? = H[fs_ra E b]?) : fs_cell E M' H' b t := by
  unfold fs_cell at h ⊢
  split
  · rename_i ht
    rw [if_pos ht] at h
    obtain ⟨q, e, ob, z⟩ := h
    exact ⟨q, e, (ob.kept h2).to (fun k hk => by simp only [fs_fv, (h1 _ _).1, (h1 _ _).2.1, (h1 _ _).2.2]), fun g1 g2 => (h1 _ _).1.trans (z g1 g2)⟩
  · rename_i ht
    rw [if_neg ht] at h
    obtain ⟨cA, q1, q2, q3, q4, q5⟩ := h
    have e : fs_av E M' t b = fs_av E M t b := by
      funext j
      simp only [fs_av, (h1 _ _).1, (h1 _ _).2.1, (h1 _ _).2.2]
    refine ⟨cA, q1, q2, ?_, ?_, by rw [e]; exact q5⟩
    · rw [h2, q3, e, (h1 1 0).2.2]
    · rw [(h1 1 0).2.2]
      exact q4
theorem fs_ra_ne {E : FE} (hE : fs_good E) {a b : Nat} (ha : 1000 ≤ a) (h : b ≠ a) : fs_ra E b ≠ fs_ra E a := by
  unfold fs_ra
  rw [if_neg (by omega : ¬ a < 1000)]
  split
  · rename_i hb
    have := hE.1 b hb
    omega
  · omega
theorem fs_wr {E : FE} {M : FM} {H : Heap} (hR : fs_Rel E M H) {a : Nat} (hw : E.2.2.2.2.2.2.2 (M.2.2 0 a 0) = true) : 1000 ≤ a := by
  rcases Nat.lt_or_ge a 1000 with h | h
  · have := hR.2.2.2.1 a h
    rw [hw] at this
    cases this
  · exact h
theorem fs_Rel_at {E : FE} (hE : fs_good E) {M M' : FM} {H H' : Heap} {a : Nat} (hR : fs_Rel E M H) (ha : M.2.2 0 a 0 ≠ 0) (hw : E.2.2.2.2.2.2.2 (M.2.2 0 a 0) = true)
    (h1 : ∀ f b i : Nat, b ≠ a → M'.1 f b i = M.1 f b i ∧ M'.2.1 f b i = M.2.1 f b i ∧ M'.2.2 f b i = M.2.2 f b i) (h0 : M'.2.2 0 a 0 = M.2.2 0 a 0) (hs : H'.size = H.size) (ho : ∀ q : Nat, q ≠ fs_ra E a → H'[q]? = H[q]?) (hc : fs_cell E M' H' a (M.2.2 0 a 0)) : fs_Rel E M' H' := by
  have h1000 := fs_wr hR hw
  obtain ⟨⟨r1, r2⟩, ⟨r3, r4⟩, r5, r6, r7⟩ := hR
  have hnx : fm_nx M' = fm_nx M := (h1 2 0 0 (by omega)).2.2
  have hcl : ∀ b : Nat, M'.2.2 0 b 0 = M.2.2 0 b 0 := fun b => by
    by_cases e : b = a
    · rw [e]; exact h0
    · exact (h1 0 b 0 e).2.2
  have hra : fs_ra E a = E.2.1.size + (a - 1000) := if_neg (by omega)
  obtain ⟨-, halt, -⟩ := r5 a ha
  refine ⟨⟨by omega, fun q hq => ?_⟩, ⟨by omega, by omega⟩, fun b hb => ?_, fun b hb => by rw [hcl]; exact r6 b hb, fun b hb f i => ?_⟩
  · rw [ho q (by omega)]
    exact r2 q hq
  · rw [hcl] at hb ⊢
    rw [hnx]
    obtain ⟨k1, k2, k3⟩ := r5 b hb
    refine ⟨k1, k2, ?_⟩
    by_cases e : b = a
    · rw [e]; exact hc
    · exact fs_cell_cg k3 (fun f i => h1 f b i e) (ho _ (fs_ra_ne hE h1000 e))
  · rw [hnx] at hb
    have e : b ≠ a := by omega
    obtain ⟨k1, k2, k3⟩ := h1 f b i e
    rw [k1, k2, k3]
    exact r7 b hb f i
theorem fs_Rel_new {E : FE} (hE : fs_good E) {M M' : FM} {H H' : Heap} {t : Nat} (hR : fs_Rel E M H) (ht : t ≠ 0)
    (h1 : ∀ f b i : Nat, b ≠ fm_nx M → b ≠ 0 → M'.1 f b i = M.1 f b i ∧ M'.2.1 f b i = M.2.1 f b i ∧ M'.2.2 f b i = M.2.2 f b i) (h00 : M'.2.2 0 0 0 = M.2.2 0 0 0) (h0 : M'.2.2 0 (fm_nx M) 0 = t) (hnx : fm_nx M' = fm_nx M + 1) (hs : H'.size = H.size + 1) (ho : ∀ q : Nat, q < H.size → H'[q]? = H[q]?) (hc : fs_cell E M' H' (fm_nx M) t) : fs_Rel E M' H' := by
  obtain ⟨⟨r1, r2⟩, ⟨r3, r4⟩, r5, r6, r7⟩ := hR
  have hra : fs_ra E (fm_nx M) = H.size := by
    unfold fs_ra
    rw [if_neg (by omega)]
    omega
  refine ⟨⟨by omega, fun q hq => ?_⟩, ⟨by omega, by omega⟩, fun b hb => ?_, fun b hb => ?_, fun b hb f i => ?_⟩
  · rw [ho q (by omega)]
    exact r2 q hq
  · by_cases e : b = fm_nx M
    · subst e
      rw [h0]
      exact ⟨by omega, by omega, hc⟩
    · by_cases e0 : b = 0
      · subst e0
        rw [h00] at hb
        exact absurd rfl (r5 0 hb).1
      · rw [(h1 0 b 0 e e0).2.2] at hb ⊢
        obtain ⟨k1, k2, k3⟩ := r5 b hb
        refine ⟨k1, by omega, fs_cell_cg k3 (fun f i => h1 f b i e e0) (ho _ ?_)⟩
        unfold fs_ra
        split
        · rename_i h
          have := hE.1 b h
          omega
        · omega
  · by_cases e0 : b = 0
    · subst e0
      rw [h00]
      exact r6 0 hb
    · rw [(h1 0 b 0 (by omega) e0).2.2]
      exact r6 b hb
  · rw [hnx] at hb
    obtain ⟨k1, k2, k3⟩ := h1 f b i (by omega) (by omega)
    rw [k1, k2, k3]
    exact r7 b (by omega) f i
