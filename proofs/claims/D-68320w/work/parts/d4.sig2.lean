/-! the signals: both sides settle -/
set_option maxRecDepth 100000
theorem ib_sg (z : Prop) (x : Int32) {i : Nat} (hi : i < 32) : (ib (fi z (x ||| b1 10) (off1 x 10)) i = true) ↔ (if i = 10 then z else ib x i = true) := by
  by_cases h : z
  · rw [fi_pos h, ib_or, ib_b1 (by decide), decide_eq_true hi]
    by_cases e : i = 10
    · rw [if_pos e, decide_eq_true e]
      simp [h]
    · rw [if_neg e, decide_eq_false e]
      simp
  · rw [fi_neg h, ib_off (by decide) hi]
    by_cases e : i = 10
    · rw [if_pos e, decide_eq_true e]
      simp [h]
    · rw [if_neg e, decide_eq_false e]
      simp
theorem ib_lk (K : Kr) {i : Nat} (hi : i < 32) : ib (kLk K).2.1 i = (ib K.2.1 i || (ib K.1 i && !ib K.2.2.1 i)) := by
  show ib (K.2.1 ||| (K.1 &&& (K.2.2.1 ^^^ Int32.ofInt (-1)))) i = _
  rw [ib_or, ib_and, ib_not _ hi]
theorem vki_se {z : Prop} {K : Kr} (I : VKi K) : VKi (kSe z K) := by
  have i0 : ib (kSe z K).1 0 = false := by
    have := (ib_sg z K.1 (i := 0) (by decide))
    rw [if_neg (by decide), I.1] at this
    show ib (fi z (K.1 ||| b1 10) (off1 K.1 10)) 0 = false
    cases h : ib (fi z (K.1 ||| b1 10) (off1 K.1 10)) 0 with
    | false => rfl
    | true => exact absurd (this.mp h) (by simp)
  refine ⟨i0, ?_, fun s => ?_⟩
  · show ib (kLk (fi z (K.1 ||| b1 10) (off1 K.1 10), K.2)).2.1 0 = false
    rw [ib_lk _ (by decide)]
    show (ib K.2.1 0 || (ib (fi z (K.1 ||| b1 10) (off1 K.1 10)) 0 && _)) = false
    rw [I.2.1, show ib (fi z (K.1 ||| b1 10) (off1 K.1 10)) 0 = false from i0]
    rfl
  · rintro ⟨x1, x2⟩
    by_cases hs : s < 32
    · have y1 : ib (kLk (fi z (K.1 ||| b1 10) (off1 K.1 10), K.2)).2.1 s = true := x1
      have y2 : ib K.2.2.1 s = true := x2
      rw [ib_lk _ hs] at y1
      change (ib K.2.1 s || (_ && !ib K.2.2.1 s)) = true at y1
      rw [y2] at y1
      simp at y1
      exact I.2.2 s ⟨y1, y2⟩
    · have y2 : ib K.2.2.1 s = true := x2
      rw [ib_ge _ (by omega)] at y2
      cases y2
section Sg
variable {m B : Nat} {M : FM} {K : Kr} {S : Sr}
theorem X96_settle (T : Ty M) (W : Wf M) (n : fm_is M 99 99 m = true) (V : VKt m M K) (I : VKi K) (VS : VSt m M S) (IS : VSi B S) :
    ∃ M', (HX96_settle m M ∧ GX96_settle m M = M') ∧ VKt m M' (kSe (¬ cs S = Int32.ofInt 1) K) ∧ FrK m M M' ∧ Ty M' := by
  obtain ⟨⟨d1, d2, d3⟩, _, d7⟩ := t_ne6 T W n
  obtain ⟨c1, c2⟩ := X96_cause T n VS IS
  obtain ⟨v1, v2, v3, v4, v5, v6⟩ := V
  have i9 : fm_in M (M.2.2 399 m 0) (Int32.ofInt 10) = true := in_nI (k := 10) (tL_399 T.1 n) (by decide) (by decide)
  have T1 : Ty (fm_sI M 3 (M.2.2 399 m 0) 10 (bz (¬ cs S = Int32.ofInt 1))) := ⟨T.1, tyb_s3' T.2 (fun _ => bz_z _)⟩
  obtain ⟨X, e, TX, x2, x3⟩ := X96_settle_L (M := M) n 31 1 fN (fm_sI M 3 (M.2.2 399 m 0) 10 (bz (¬ cs S = Int32.ofInt 1))) T1 (wf_sI (lo := 904) (hi := 904) W rfl (tN_399 T.1 n)) rfl (by decide) (by decide)
  have x22 : X.2.2 = M.2.2 := congrArg Prod.snd x2
  have x21 : X.2.1 = M.2.1 := congrArg Prod.fst x2
  have hH0 : HX96_settle_0 m M := by
    unfold HX96_settle_0
    dsimp only
    rw [c2]
    exact ⟨c1, fun _ => ⟨i9, trivial⟩, fun _ => ⟨i9, trivial⟩⟩
  have e0 : FX96_settle fN m M = some X := by
    show FX96_settle_0 fN (FX96_settle_L22 fN fN) m M = _
    rw [(gX96_settle_0 _ m M T n hH0).1]
    unfold GX96_settle_0
    rw [c2]
    dsimp only
    rw [fi_not, fi_F (F := fun z => GX96_settle_19 m (M.2.2 399 m 0) (Int32.ofInt 10) z M)]
    unfold GX96_settle_19
    rw [show bz (¬ cs S = Int32.ofInt 1) &&& 1 = bz (¬ cs S = Int32.ofInt 1) by rcases bz_z (¬ cs S = Int32.ofInt 1) with h | h <;> rw [h] <;> rfl]
    exact e
  have r399 : ∀ i, X.1 3 (M.2.2 399 m 0) i = if i = 10 then bz (¬ cs S = Int32.ofInt 1) else M.1 3 (M.2.2 399 m 0) i := fun i => by
    rw [x3, if_neg (fun q => d1 q.2.1), rI]
    by_cases h : i = 10
    · rw [if_pos ⟨rfl, rfl, h⟩, if_pos h]
    · rw [if_neg (fun q => h q.2.2), if_neg h]
  have sgb : ∀ i, i < 32 → X.1 3 (M.2.2 399 m 0) i = bz (ib (fi (¬ cs S = Int32.ofInt 1) (K.1 ||| b1 10) (off1 K.1 10)) i = true) := fun i hi => by
    rw [r399, bz_c (ib_sg (¬ cs S = Int32.ofInt 1) K.1 hi)]
    by_cases h : i = 10
    · rw [if_pos h, if_pos h]
    · rw [if_neg h, if_neg h]
      exact v1 i hi
  have oth : ∀ b i, b ≠ M.2.2 399 m 0 → b ≠ M.2.2 400 m 0 → X.1 3 b i = M.1 3 b i := fun b i h1 h2 => by
    rw [x3, if_neg (fun q => h2 q.2.1), rI, if_neg (fun q => h1 q.2.1)]
  refine ⟨X, op_of (P := OkV M) (d := M) e0 ⟨TX, fun b _ => ⟨by rw [x22], by rw [x22]⟩⟩, ⟨fun s hs => ?_, fun s hs => ?_, fun s hs => ?_, fun s hs => ?_, fun s hs => ?_, fun s hs => ?_⟩, ⟨x22, fun f b i h => ?_, fun f b i => by rw [x21]⟩, TX⟩
  · rw [x22]
    exact sgb s hs
  · rw [x22]
    show _ = bz (ib (kLk (fi (¬ cs S = Int32.ofInt 1) (K.1 ||| b1 10) (off1 K.1 10), K.2)).2.1 s = true)
    rw [ib_lk _ hs]
    show _ = bz ((ib K.2.1 s || (ib (fi (¬ cs S = Int32.ofInt 1) (K.1 ||| b1 10) (off1 K.1 10)) s && !ib K.2.2.1 s)) = true)
    by_cases h1 : 1 ≤ s
    · have q0 : (fm_sI M 3 (M.2.2 399 m 0) 10 (bz (¬ cs S = Int32.ofInt 1))).1 3 (M.2.2 400 m 0) s = bz (ib K.2.1 s = true) := by
        rw [rI, if_neg (fun q => d1 q.2.1.symm)]
        exact v2 s hs
      have q1 : (fm_sI M 3 (M.2.2 399 m 0) 10 (bz (¬ cs S = Int32.ofInt 1))).1 3 (M.2.2 401 m 0) s = bz (ib K.2.2.1 s = true) := by
        rw [rI, if_neg (fun q => d2 q.2.1.symm)]
        exact v3 s hs
      have q9 : (fm_sI M 3 (M.2.2 399 m 0) 10 (bz (¬ cs S = Int32.ofInt 1))).1 3 (M.2.2 399 m 0) s = bz (ib (fi (¬ cs S = Int32.ofInt 1) (K.1 ||| b1 10) (off1 K.1 10)) s = true) := by
        rw [← sgb s hs, r399, rI]
        by_cases h : s = 10
        · rw [if_pos ⟨rfl, rfl, h⟩, if_pos h]
        · rw [if_neg (fun q => h q.2.2), if_neg h]
      rw [x3, if_pos ⟨rfl, rfl, h1, hs⟩]
      show bz (¬ (fm_sI M 3 (M.2.2 399 m 0) 10 _).1 3 (M.2.2 400 m 0) s = 0 ∨ (¬ (fm_sI M 3 (M.2.2 399 m 0) 10 _).1 3 (M.2.2 399 m 0) s = 0 ∧ (fm_sI M 3 (M.2.2 399 m 0) 10 _).1 3 (M.2.2 401 m 0) s = 0)) = _
      rw [q0, q1, q9]
      refine bz_c ?_
      rw [bz_0, bz_0, bz_0, Classical.not_not, Classical.not_not]
      simp
    · have s0 : s = 0 := by omega
      have sz : ib (fi (¬ cs S = Int32.ofInt 1) (K.1 ||| b1 10) (off1 K.1 10)) 0 = false := by
        have := ib_sg (¬ cs S = Int32.ofInt 1) K.1 (i := 0) (by decide)
        rw [if_neg (by decide), I.1] at this
        cases h : ib (fi (¬ cs S = Int32.ofInt 1) (K.1 ||| b1 10) (off1 K.1 10)) 0 with
        | false => rfl
        | true => exact absurd (this.mp h) (by simp)
      rw [s0, x3, if_neg (by omega), rI, if_neg (fun q => d1 q.2.1.symm), v2 0 (by decide), sz, I.2.1]
      rfl
  · rw [x22]
    exact (oth _ s d2.symm d3.symm).trans (v3 s hs)
  · rw [x22]
    exact (oth _ s (d7 _ (Or.inl rfl)).1.symm (d7 _ (Or.inr (Or.inl rfl))).1.symm).trans (v4 s hs)
  · rw [x22]
    exact (oth _ s (d7 _ (Or.inl rfl)).2.1.symm (d7 _ (Or.inr (Or.inl rfl))).2.1.symm).trans (v5 s hs)
  · rw [x22]
    exact (oth _ s (d7 _ (Or.inl rfl)).2.2.symm (d7 _ (Or.inr (Or.inl rfl))).2.2.symm).trans (v6 s hs)
  · rw [x3, if_neg (fun q => h ⟨q.1, Or.inr (Or.inl q.2.1)⟩), rI, if_neg (fun q => h ⟨q.1, Or.inl q.2.1⟩)]
end Sg
