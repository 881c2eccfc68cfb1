/-! floats: the twin compares, tells classes -/
set_option maxRecDepth 100000
section Ty'
variable {M N K : FM} {f t d r fl i j a b : Nat} {s : Fs} {x y : Int64} {X Y : UU} {sx sy : Bool}
theorem X99_compared (o : FlO f M) (v : VFt f M s) (ht : t ≤ 1) (ha : a < 32) (hb : b < 32) (hr : r < 3) (v0 : SV f 0 M (rdU t a s)) (v1 : SV f 1 M (rdU t b s)) :
    PoT f t d s (some ((cmV r (rdU t a s) (rdU t b s)).2, .inr (cmV r (rdU t a s) (rdU t b s)).1)) (HX99_compared f (nI a) (nI b) (nI t) (nI r) M) (GX99_compared f (nI a) (nI b) (nI t) (nI r) M) M := by
  have gX := rdU_g ht a s
  have gY := rdU_g ht b s
  have r0 : (nI r = 0) = (r = 0) := propext (ni_i (b := 0) (by omega) (by decide))
  have r1 : (nI r = Int32.ofInt 1) = (r = 1) := propext (ni_i (b := 1) (by omega) (by decide))
  have lt2 : (nI r < Int32.ofInt 2) = (r < 2) := propext (by
    have := ni_lt (z := 2) (k := r) (by omega)
    rw [this]
    omega)
  obtain ⟨n0, e0⟩ := sv_n o (show 0 < 3 by decide) v0 gX.1
  obtain ⟨n1, e1⟩ := sv_n o (show 1 < 3 by decide) v1 gY.1
  have G48 : ∀ (fl : Nat) (K : FM) (z : Int64), FlO f K → VFt f K (sFl fl s) → FrTF f M K → cmV r (rdU t a s) (rdU t b s) = (z, fl) → ∃ N, GX99_tell f z K = (Int32.ofInt 1, N) ∧ FrTF f M N ∧ VFt f N (fAp t d (some ((cmV r (rdU t a s) (rdU t b s)).2, .inr (cmV r (rdU t a s) (rdU t b s)).1)) s).2 := fun fl K z oK vK fK e => by
    rw [e]
    exact po_tg oK vK fK z
  have k0 := kdI (v := 4) v0 gX (by decide)
  have k1 := kdI (v := 4) v1 gY (by decide)
  rw [show ((4 : Nat) : Int) = 4 from rfl] at k0 k1
  have R16 := X99_raiseFlags (f := f) (fl := 16) o.1 (by decide)
  have C16 : (3 ≤ (rdU t a s).1 ∨ 3 ≤ (rdU t b s).1) → ∃ N, GX99_compared_16 f (nI r) M = (Int32.ofInt 1, N) ∧ FrTF f M N ∧ VFt f N (fAp t d (some ((cmV r (rdU t a s) (rdU t b s)).2, .inr (cmV r (rdU t a s) (rdU t b s)).1)) s).2 := fun q => by
    have loud : r < 2 ∨ (rdU t a s).1 = 4 ∨ (rdU t b s).1 = 4 → ∃ N, GX99_compared_42 f M = (Int32.ofInt 1, N) ∧ FrTF f M N ∧ VFt f N (fAp t d (some ((cmV r (rdU t a s) (rdU t b s)).2, .inr (cmV r (rdU t a s) (rdU t b s)).1)) s).2 := fun w => G48 16 (GX99_raiseFlags f (nI 16) M) (lN 0) (frF_o o R16.1) (vFt_r o v R16) (frT_f R16.1) (by unfold cmV; rw [if_pos q, if_pos w])
    unfold GX99_compared_16
    dsimp only
    rw [lt2, cl0, cl1, propext k0, propext k1]
    by_cases c0 : r < 2
    · rw [fi_pos c0]
      exact loud (Or.inl c0)
    · rw [fi_neg c0]
      by_cases c1 : (rdU t a s).1 = 4
      · rw [fi_pos c1]
        exact loud (Or.inr (Or.inl c1))
      · rw [fi_neg c1]
        by_cases c2 : (rdU t b s).1 = 4
        · rw [fi_pos c2]
          exact loud (Or.inr (Or.inr c2))
        · rw [fi_neg c2]
          exact G48 0 M (lN 0) o (by rw [sFl_0]; exact v) (frT_rF o.1) (by unfold cmV; rw [if_pos q, if_neg (fun w => w.elim c0 (fun w => w.elim c1 c2))])
  unfold HX99_compared HX99_compared_0 GX99_compared GX99_compared_0
  rw [show Int32.ofInt 0 = nI 0 from rfl, e0]
  dsimp only
  rw [show Int32.ofInt 1 = nI 1 from rfl, e1]
  dsimp only
  rw [fi_bz, fi_bz]
  by_cases q0 : 3 ≤ (rdU t a s).1
  · rw [fi_pos q0, bz_t q0]
    obtain ⟨N, e, n⟩ := C16 (Or.inl q0)
    exact ⟨N, ⟨⟨n0, fun z => absurd z (by decide), fun _ => trivial⟩, e⟩, n⟩
  · rw [fi_neg q0, bz_f q0]
    by_cases q1 : 3 ≤ (rdU t b s).1
    · rw [fi_pos q1, bz_t q1]
      obtain ⟨N, e, n⟩ := C16 (Or.inr q1)
      exact ⟨N, ⟨⟨n0, fun _ => ⟨n1, fun z => absurd z (by decide), fun _ => trivial⟩, fun z => absurd rfl z⟩, e⟩, n⟩
    · rw [fi_neg q1, bz_f q1]
      obtain ⟨ho, eo⟩ := X99_order o v ht ha hb v0 v1 (show (rdU t a s).1 ≤ 2 by omega) (show (rdU t b s).1 ≤ 2 by omega) False
      rw [bz_f (fun z => z)] at ho eo
      have ho : HX99_order f (nI a) (nI b) (nI t) (nI 0) M := ho
      have eo : GX99_order f (nI a) (nI b) (nI t) (nI 0) M = (Int32.ofInt (ordU (rdU t a s) (rdU t b s)), M) := by
        rw [show ordU (rdU t a s) (rdU t b s) = ordT False (rdU t a s) (rdU t b s) by unfold ordT; rw [fi_neg (fun z => z.2.2)]]
        exact eo
      rw [eo]
      dsimp only
      have ob := ordU_b (rdU t a s) (rdU t b s)
      have gt0 : (0 < Int32.ofInt (ordU (rdU t a s) (rdU t b s))) = (0 < ordU (rdU t a s) (rdU t b s)) := propext (iz_lt (a := 0) (by omega))
      have ge0 : (0 ≤ Int32.ofInt (ordU (rdU t a s) (rdU t b s))) = (0 ≤ ordU (rdU t a s) (rdU t b s)) := propext (iz_le (a := 0) (by omega))
      have eq0 : (Int32.ofInt (ordU (rdU t a s) (rdU t b s)) = 0) = (ordU (rdU t a s) (rdU t b s) = 0) := propext (iz_eq (b := 0) (by omega))
      have eV : cmV r (rdU t a s) (rdU t b s) = (lN (if cmT r (ordU (rdU t a s) (rdU t b s)) = true then 1 else 0), 0) := by
        unfold cmV
        rw [if_neg (fun z => z.elim q0 q1)]
      have g0 := G48 0 M (lN 0) o (by rw [sFl_0]; exact v) (frT_rF o.1)
      have g1 := G48 0 M (lN 1) o (by rw [sFl_0]; exact v) (frT_rF o.1)
      have r1' : (nI r = nI 1) = (r = 1) := r1
      rw [r0, r1', gt0, ge0, eq0]
      generalize ordU (rdU t a s) (rdU t b s) = z at *
      have c0 : GX99_compared_111 f (nI 0) M = GX99_tell f (lN 0) M := fi_pos (show nI 0 = 0 from rfl)
      have c1 : GX99_compared_111 f (nI 1) M = GX99_tell f (lN 1) M := fi_neg (show ¬ nI 1 = 0 by decide)
      rw [c0, c1]
      have fin' : ∀ R : Int32 × FM, (cmT r z = true → R = GX99_tell f (lN 1) M) → (¬ cmT r z = true → R = GX99_tell f (lN 0) M) → ∃ N, R = (Int32.ofInt 1, N) ∧ FrTF f M N ∧ VFt f N (fAp t d (some ((cmV r (rdU t a s) (rdU t b s)).2, .inr (cmV r (rdU t a s) (rdU t b s)).1)) s).2 := fun R y1 y0 => by
        by_cases w : cmT r z = true
        · rw [if_pos w] at eV
          rw [y1 w]
          exact g1 eV
        · rw [if_neg w] at eV
          rw [y0 w]
          exact g0 eV
      have ex := fin' (fi (r = 0) (fi (0 < z) (GX99_tell f (lN 0) M) (GX99_tell f (lN 1) M)) (fi (r = 1) (fi (0 ≤ z) (GX99_tell f (lN 0) M) (GX99_tell f (lN 1) M)) (fi (z = 0) (GX99_tell f (lN 1) M) (GX99_tell f (lN 0) M)))) (fun w => by
        unfold cmT at w
        by_cases y0 : r = 0
        · rw [if_pos y0] at w
          have w := of_decide_eq_true w
          rw [fi_pos y0, fi_neg (show ¬ 0 < z by omega)]
        · rw [if_neg y0] at w
          rw [fi_neg y0]
          by_cases y1 : r = 1
          · rw [if_pos y1] at w
            have w := of_decide_eq_true w
            rw [fi_pos y1, fi_neg (show ¬ 0 ≤ z by omega)]
          · rw [if_neg y1] at w
            have w := of_decide_eq_true w
            rw [fi_neg y1, fi_pos w]) (fun w => by
        unfold cmT at w
        by_cases y0 : r = 0
        · rw [if_pos y0] at w
          have w : ¬ z ≤ 0 := fun y => w (decide_eq_true y)
          rw [fi_pos y0, fi_pos (show 0 < z by omega)]
        · rw [if_neg y0] at w
          rw [fi_neg y0]
          by_cases y1 : r = 1
          · rw [if_pos y1] at w
            have w : ¬ z < 0 := fun y => w (decide_eq_true y)
            rw [fi_pos y1, fi_pos (show 0 ≤ z by omega)]
          · rw [if_neg y1] at w
            have w : ¬ z = 0 := fun y => w (decide_eq_true y)
            rw [fi_neg y1, fi_neg w])
      obtain ⟨N, e, n⟩ := ex
      exact ⟨N, ⟨⟨n0, fun _ => ⟨n1, fun _ => ⟨ho, trivial⟩, fun z => absurd rfl z⟩, fun z => absurd rfl z⟩, e⟩, n⟩
theorem X99_classified (o : FlO f M) (v : VFt f M s) (ht : t ≤ 1) (ha : a < 32) (v0 : SV f 0 M (rdU t a s)) :
    PoT f t d s (some (0, .inr (lkV t 1 a s))) (HX99_classified f (nI t) M) (GX99_classified f (nI t) M) M := by
  have gX := rdU_g ht a s
  have bX := gdb gX
  have p := p2F ht
  have k : ∀ l : Nat, l ≤ 4 → ((M.1 3 (M.2.2 375 f 0) 0 = Int32.ofInt (l : Int)) = ((rdU t a s).1 = l)) := fun l hl => propext (kdI (v := l) v0 gX hl)
  have k0 := k 0 (by decide)
  have k1 := k 1 (by decide)
  have k3 := k 3 (by decide)
  have k4 := k 4 (by decide)
  have i2 : fm_in M (M.2.2 372 f 0) (nI t) = true := in_nI (tL_372 o.1.1 o.2.1) (by omega) (by decide)
  have sm : (0 ≤ lg_cmp (lN (rdU t a s).2.2.1) (lN (2 ^ fF t))) = (2 ^ fF t ≤ (rdU t a s).2.2.1) := propext (b_ge (by have := gX.2.1; omega) (by omega))
  have tel : ∀ z : Int64, z = lkV t 1 a s → ∃ N, GX99_tell f z M = (Int32.ofInt 1, N) ∧ FrTF f M N ∧ VFt f N (fAp t d (some (0, .inr (lkV t 1 a s))) s).2 := fun z hz => by
    rw [← hz]
    exact po_tg o (by rw [sFl_0]; exact v) (frT_rF o.1) z
  refine (fun (h : ∃ N, GX99_classified f (nI t) M = (Int32.ofInt 1, N) ∧ FrTF f M N ∧ VFt f N (fAp t d (some (0, .inr (lkV t 1 a s))) s).2) => h.elim fun N h => ⟨N, ⟨⟨i2, trivial⟩, h.1⟩, h.2⟩) ?_
  have K78 : ∀ n : Nat, n ≤ 7 → ((rdU t a s).1 ≤ 2 → n = clN (rdU t a s) (decide (uE t (bO t (s.1 a)) = 0))) → ∃ N, GX99_classified_78 f (nI n) M = (Int32.ofInt 1, N) ∧ FrTF f M N ∧ VFt f N (fAp t d (some (0, .inr (lkV t 1 a s))) s).2 := fun n hn h => by
    have eL : lkV t 1 a s = lN (2 ^ clN (rdU t a s) (decide (uE t (bO t (s.1 a)) = 0))) := by
      unfold lkV
      rw [if_neg (by decide)]
    unfold GX99_classified_78 GX99_classified_115
    dsimp only
    rw [cl0, show (M.1 3 (M.2.2 375 f 0) 0 = Int32.ofInt 4) = ((rdU t a s).1 = 4) from k4, show (M.1 3 (M.2.2 375 f 0) 0 = Int32.ofInt 3) = ((rdU t a s).1 = 3) from k3]
    by_cases q4 : (rdU t a s).1 = 4
    · rw [fi_pos q4]
      refine tel _ ?_
      rw [eL]
      unfold clN
      rw [if_pos q4]
      rfl
    · rw [fi_neg q4]
      by_cases q3 : (rdU t a s).1 = 3
      · rw [fi_pos q3]
        refine tel _ ?_
        rw [eL]
        unfold clN
        rw [if_neg q4, if_pos q3]
        rfl
      · rw [fi_neg q3]
        refine tel _ ?_
        rw [eL, ← h (by have := gX.1; omega)]
        have := shl_n (c := 1) (n := n) (by omega) (by
          have : 2 ^ n ≤ 2 ^ 7 := Nat.pow_le_pow_right (by decide) hn
          have : (2 : Nat) ^ 7 = 128 := by decide
          omega)
        rw [Nat.one_mul] at this
        rw [iz_nI]
        exact this
  have K60 : ∀ n : Nat, n ≤ 3 → ((rdU t a s).1 ≤ 2 → (if (rdU t a s).2.1 = true then n else 7 - n) = clN (rdU t a s) (decide (uE t (bO t (s.1 a)) = 0))) → ∃ N, GX99_classified_60 f (nI n) M = (Int32.ofInt 1, N) ∧ FrTF f M N ∧ VFt f N (fAp t d (some (0, .inr (lkV t 1 a s))) s).2 := fun n hn h => by
    unfold GX99_classified_60
    dsimp only
    rw [cl0, v0.2.1, fi_bz, show Int32.ofInt 7 = nI 7 from rfl, ni_sub (show n ≤ 7 by omega)]
    by_cases q : (rdU t a s).2.1 = true
    · rw [fi_pos q]
      rw [if_pos q] at h
      exact K78 n (by omega) h
    · rw [fi_neg q]
      rw [if_neg q] at h
      exact K78 (7 - n) (by omega) h
  unfold GX99_classified GX99_classified_0
  dsimp only
  rw [cl0, v0.2.2.1, o_cl (show t < 2147483648 by omega), fl_fr o ht, shl1 ht, sm]
  have kk : ∀ c : Prop, (c ↔ (rdU t a s).2.2.1 < 2 ^ fF t) → ∃ N, GX99_classified_23 f (bz c) M = (Int32.ofInt 1, N) ∧ FrTF f M N ∧ VFt f N (fAp t d (some (0, .inr (lkV t 1 a s))) s).2 := fun c hc => by
    unfold GX99_classified_23
    dsimp only
    rw [cl0, show (M.1 3 (M.2.2 375 f 0) 0 = 0) = ((rdU t a s).1 = 0) from k0, show (M.1 3 (M.2.2 375 f 0) 0 = Int32.ofInt 1) = ((rdU t a s).1 = 1) from k1, fi_bz]
    by_cases q0 : (rdU t a s).1 = 0
    · rw [fi_pos q0]
      refine K60 3 (by decide) (fun _ => ?_)
      unfold clN
      rw [if_neg (show ¬ (rdU t a s).1 = 4 by omega), if_neg (show ¬ (rdU t a s).1 = 3 by omega), if_neg (show ¬ (rdU t a s).1 = 2 by omega), if_pos q0]
    · rw [fi_neg q0]
      by_cases q1 : (rdU t a s).1 = 1
      · rw [fi_pos q1]
        have fx := uF_lt t (bO t (s.1 a))
        have eZ : (rdU t a s).2.2.1 = uZ t (bO t (s.1 a)) := rfl
        have hE : c ↔ uE t (bO t (s.1 a)) = 0 := by
          rw [hc, eZ]
          unfold uZ
          by_cases w : uE t (bO t (s.1 a)) = 0
          · rw [if_pos w]
            exact ⟨fun _ => w, fun _ => fx⟩
          · rw [if_neg w]
            exact ⟨fun z => by omega, fun z => absurd z w⟩
        have fin' : ∀ n, n = (if uE t (bO t (s.1 a)) = 0 then 2 else 1) → ∃ N, GX99_classified_60 f (nI n) M = (Int32.ofInt 1, N) ∧ FrTF f M N ∧ VFt f N (fAp t d (some (0, .inr (lkV t 1 a s))) s).2 := fun n hn => by
          refine K60 n (by rw [hn]; split <;> decide) (fun _ => ?_)
          unfold clN
          rw [if_neg (show ¬ (rdU t a s).1 = 4 by omega), if_neg (show ¬ (rdU t a s).1 = 3 by omega), if_neg (show ¬ (rdU t a s).1 = 2 by omega), if_neg q0, hn]
          by_cases w : uE t (bO t (s.1 a)) = 0
          · rw [if_pos w, if_pos (decide_eq_true w)]
          · rw [if_neg w, if_neg (fun z => w (of_decide_eq_true z))]
        by_cases w : c
        · rw [fi_pos w]
          exact fin' 2 (by rw [if_pos (hE.mp w)])
        · rw [fi_neg w]
          exact fin' 1 (by rw [if_neg (fun z => w (hE.mpr z))])
      · rw [fi_neg q1]
        refine K60 0 (by decide) (fun h2 => ?_)
        unfold clN
        rw [if_neg (show ¬ (rdU t a s).1 = 4 by omega), if_neg (show ¬ (rdU t a s).1 = 3 by omega), if_pos (show (rdU t a s).1 = 2 by omega)]
  by_cases q : 2 ^ fF t ≤ (rdU t a s).2.2.1
  · rw [fi_pos q]
    have := kk False ⟨fun z => z.elim, fun z => by omega⟩
    rw [bz_f (fun z => z)] at this
    exact this
  · rw [fi_neg q]
    have := kk True ⟨fun _ => by omega, fun _ => trivial⟩
    rw [bz_t trivial] at this
    exact this
end Ty'
