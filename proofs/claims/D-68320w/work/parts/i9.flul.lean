/-! floats: the twin compares, chooses, tells classes -/
set_option maxRecDepth 100000
section Tw
variable {M N K : FM} {f t d r fl i j a b : Nat} {s : Fs} {x y : Int64} {X Y : UU} {sx sy : Bool}
theorem cmpI_c {p q : Int} {A B : Int64} (h1 : A.toInt = p) (h2 : B.toInt = q) : fi (0 ≤ lg_cmp A B) (fi (lg_cmp A B ≤ 0) (Int32.ofInt 0, M) (Int32.ofInt 1, M)) (Int32.ofInt (-1), M) = (Int32.ofInt (cmpI p q), M) := by
  rw [propext (cl_ge (x := A) (y := B)), propext (cl_le (x := A) (y := B)), h1, h2]
  unfold cmpI
  by_cases c1 : q ≤ p
  · rw [fi_pos c1, if_neg (by omega)]
    by_cases c2 : p ≤ q
    · rw [fi_pos c2, if_neg (by omega)]
    · rw [fi_neg c2, if_pos (by omega)]
  · rw [fi_neg c1, if_pos (by omega)]
theorem fi_fn {α β : Type} (F : α → β) (p : Prop) (x y : α) : fi p (F x) (F y) = F (fi p x y) := by
  by_cases q : p
  · rw [fi_pos q, fi_pos q]
  · rw [fi_neg q, fi_neg q]
theorem o75 (h0 : M.1 3 (M.2.2 376 f 0) 0 = bz (sx = true)) (h1 : M.1 3 (M.2.2 376 f 0) 1 = bz (sy = true)) {m n : Nat} (hm : m < 9223372036854775808) (hn : n < 9223372036854775808) :
    GX99_order_75 f (lN m) (lN n) M = (Int32.ofInt (cmpI (sgI sx m) (sgI sy n)), M) := by
  unfold GX99_order_75 GX99_order_94
  dsimp only
  rw [cl0, cl1, h0, h1, propext (bzo (c := sx = true)), propext (bzo (c := sy = true))]
  have e1 : ∀ z, fi (sy = true) (GX99_order_115 z (Int64.ofInt 0 - lN n) M) (GX99_order_115 z (lN n) M) = GX99_order_115 z (fi (sy = true) (Int64.ofInt 0 - lN n) (lN n)) M := fun z => fi_fn (fun w => GX99_order_115 z w M) _ _ _
  rw [e1, e1, fi_fn (fun z => GX99_order_115 z (fi (sy = true) (Int64.ofInt 0 - lN n) (lN n)) M) (sx = true) (Int64.ofInt 0 - lN m) (lN m)]
  exact cmpI_c (sgL hm) (sgL hn)
theorem X99_order (o : FlO f M) (v : VFt f M s) (ht : t ≤ 1) (ha : a < 32) (hb : b < 32) (v0 : SV f 0 M (rdU t a s)) (v1 : SV f 1 M (rdU t b s)) (hx : (rdU t a s).1 ≤ 2) (hy : (rdU t b s).1 ≤ 2) (bs : Prop) :
    HX99_order f (nI a) (nI b) (nI t) (bz bs) M ∧ GX99_order f (nI a) (nI b) (nI t) (bz bs) M = (Int32.ofInt (ordT bs (rdU t a s) (rdU t b s)), M) := by
  obtain ⟨h1, e1⟩ := X99_bitsOf o ht ha
  obtain ⟨h2, e2⟩ := X99_bitsOf o ht hb
  rw [v.1 a ha] at e1
  rw [v.1 b hb] at e2
  have z1 : t = 0 → ul (bO t (s.1 a)) < 4294967296 := fun y => by rw [y]; exact bO_lt _
  have z2 : t = 0 → ul (bO t (s.1 b)) < 4294967296 := fun y => by rw [y]; exact bO_lt _
  have om := ordU_m (x := bO t (s.1 a)) (y := bO t (s.1 b)) ht hx hy
  have m1 := mg_0 (x := bO t (s.1 a)) ht hx
  have m2 := mg_0 (x := bO t (s.1 b)) ht hy
  have l1 := mg_lt ht (bO t (s.1 a))
  have l2 := mg_lt ht (bO t (s.1 b))
  have K : ∀ T : Int64, T = lN (2 ^ fS t - 1) → HX99_order_14 f (nI a) (nI b) (nI t) (bz bs) T M ∧ GX99_order_14 f (nI a) (nI b) (nI t) (bz bs) T M = (Int32.ofInt (ordT bs (rdU t a s) (rdU t b s)), M) := fun T hT => by
    unfold HX99_order_14 GX99_order_14 GX99_order_74
    dsimp only
    rw [e1]
    dsimp only
    rw [e2]
    dsimp only
    refine ⟨⟨h1, h2, trivial⟩, ?_⟩
    rw [hT, mgL ht z1, mgL ht z2, propext (l0 _), propext (l0 _), l_big (by omega), l_big (by omega), cl0, cl1, v0.2.1, v1.2.1, o75 v0.2.1 v1.2.1 l1 l2, fi_bz]
    have k0 : (rdU t a s).1 = uK t (bO t (s.1 a)) := rfl
    have k1 : (rdU t b s).1 = uK t (bO t (s.1 b)) := rfl
    have s0 : (rdU t a s).2.1 = uS' t (bO t (s.1 a)) := rfl
    have s1 : (rdU t b s).2.1 = uS' t (bO t (s.1 b)) := rfl
    have eU : ordU (rdU t a s) (rdU t b s) = ordU (upk t (bO t (s.1 a))) (upk t (bO t (s.1 b))) := rfl
    unfold ordT
    rw [eU, om, k0, k1, s0, s1]
    by_cases c1 : mg t (bO t (s.1 a)) = 0
    · rw [fi_pos c1]
      by_cases c2 : mg t (bO t (s.1 b)) = 0
      · rw [fi_pos c2, if_pos (show mg t (bO t (s.1 a)) = 0 ∧ mg t (bO t (s.1 b)) = 0 from ⟨c1, c2⟩)]
        by_cases c3 : bs
        · rw [fi_pos c3, fi_pos ⟨m1.mp c1, m2.mp c2, c3⟩]
          refine congrArg (fun z => (z, M)) ?_
          cases uS' t (bO t (s.1 a)) <;> cases uS' t (bO t (s.1 b))
          · rw [bz_f (show ¬ false = true by decide)]
            decide
          · rw [bz_f (show ¬ false = true by decide), bz_t (show true = true from rfl)]
            decide
          · rw [bz_f (show ¬ false = true by decide), bz_t (show true = true from rfl)]
            decide
          · rw [bz_t (show true = true from rfl)]
            decide
        · rw [fi_neg c3, fi_neg (fun y => c3 y.2.2)]
      · rw [fi_neg c2, if_neg (show ¬ (mg t (bO t (s.1 a)) = 0 ∧ mg t (bO t (s.1 b)) = 0) from fun y => c2 y.2), fi_neg (fun y => c2 (m2.mpr y.2.1))]
    · rw [fi_neg c1, if_neg (show ¬ (mg t (bO t (s.1 a)) = 0 ∧ mg t (bO t (s.1 b)) = 0) from fun y => c1 y.1), fi_neg (fun y => c1 (m1.mpr y.1))]
  unfold HX99_order HX99_order_0 GX99_order GX99_order_0
  rcases (show t = 0 ∨ t = 1 by omega) with q | q
  · subst q
    obtain ⟨h, e⟩ := K (Int64.ofInt 2147483647) (by decide)
    rw [fi_neg (show ¬ nI 0 = Int32.ofInt 1 by decide)]
    exact ⟨⟨fun y => absurd y (by decide), fun _ => h⟩, e⟩
  · subst q
    obtain ⟨h, e⟩ := K (Int64.ofInt 9223372036854775807) (by decide)
    rw [fi_pos (show nI 1 = Int32.ofInt 1 from rfl)]
    exact ⟨⟨fun _ => h, fun y => absurd rfl y⟩, e⟩
/-- which of two the twin takes -/
def fstT (r : Nat) (X Y : UU) : Prop := 3 ≤ Y.1 ∨ (¬ 3 ≤ X.1 ∧ ((r = 0 ∧ ordT True X Y ≤ 0) ∨ (r ≠ 0 ∧ 0 ≤ ordT True X Y)))
theorem ch_e (ht : t ≤ 1) (hr : r < 2) (zx : t = 0 → ul x < 4294967296) (zy : t = 0 → ul y < 4294967296) (h : ¬ (3 ≤ (upk t x).1 ∧ 3 ≤ (upk t y).1)) : chB t r x y (upk t x) (upk t y) = fi (fstT r (upk t x) (upk t y)) x y := by
  unfold chB fstT
  rw [if_neg h]
  by_cases q1 : 3 ≤ (upk t x).1
  · rw [if_pos q1, fi_neg (fun z => z.elim (fun w => h ⟨q1, w⟩) (fun w => w.1 q1))]
  · rw [if_neg q1]
    by_cases q2 : 3 ≤ (upk t y).1
    · rw [if_pos q2, fi_pos (Or.inl q2)]
    · rw [if_neg q2]
      have hx : uK t x ≤ 2 := by have : ¬ 3 ≤ uK t x := q1; omega
      have hy : uK t y ≤ 2 := by have : ¬ 3 ≤ uK t y := q2; omega
      have om := ordU_m (x := x) (y := y) ht hx hy
      have m1 := mg_0 (x := x) ht hx
      have m2 := mg_0 (x := y) ht hy
      have tst : (3 ≤ (upk t y).1 ∨ (¬ 3 ≤ (upk t x).1 ∧ ((r = 0 ∧ ordT True (upk t x) (upk t y) ≤ 0) ∨ (r ≠ 0 ∧ 0 ≤ ordT True (upk t x) (upk t y))))) = ((r = 0 ∧ ordT True (upk t x) (upk t y) ≤ 0) ∨ (r ≠ 0 ∧ 0 ≤ ordT True (upk t x) (upk t y))) := propext ⟨fun z => z.elim (fun w => absurd w q2) (fun w => w.2), fun z => Or.inr ⟨q1, z⟩⟩
      rw [tst]
      by_cases c0 : ordU (upk t x) (upk t y) = 0
      · unfold lsB
        rw [if_pos c0, show (upk t x).2.1 = uS' t x from rfl]
        by_cases c1 : uK t x = 0 ∧ uK t y = 0
        · have e : ordT True (upk t x) (upk t y) = (if uS' t y = true then 1 else 0) - (if uS' t x = true then 1 else 0) := by
            unfold ordT
            exact fi_pos ⟨c1.1, c1.2, trivial⟩
          rw [e]
          by_cases c2 : uS' t x = uS' t y
          · have := mg_b ht zx zy ((m1.mpr c1.1).trans (m2.mpr c1.2).symm) c2
            rw [this]
            rw [fi_self]
            split <;> rfl
          · rcases (show r = 0 ∨ r = 1 by omega) with w | w <;> subst w
            · revert c2
              cases uS' t x <;> cases uS' t y <;> intro c2
              · exact absurd rfl c2
              · rw [if_neg (by decide), fi_neg (by decide)]
              · rw [if_pos (by decide), fi_pos (by decide)]
              · exact absurd rfl c2
            · revert c2
              cases uS' t x <;> cases uS' t y <;> intro c2
              · exact absurd rfl c2
              · rw [if_pos (by decide), fi_pos (by decide)]
              · rw [if_neg (by decide), fi_neg (by decide)]
              · exact absurd rfl c2
        · have nm : ¬ (mg t x = 0 ∧ mg t y = 0) := fun z => c1 ⟨m1.mp z.1, m2.mp z.2⟩
          rw [c0, if_neg nm] at om
          unfold cmpI at om
          have eq : sgI (uS' t x) (mg t x) = sgI (uS' t y) (mg t y) := by
            by_cases w1 : sgI (uS' t x) (mg t x) < sgI (uS' t y) (mg t y)
            · rw [if_pos w1] at om
              exact absurd om (by decide)
            · rw [if_neg w1] at om
              by_cases w2 : sgI (uS' t y) (mg t y) < sgI (uS' t x) (mg t x)
              · rw [if_pos w2] at om
                exact absurd om (by decide)
              · omega
          have both : uS' t x = uS' t y ∧ mg t x = mg t y := by
            unfold sgI at eq
            generalize mg t x = m at *
            generalize mg t y = n at *
            revert eq
            cases uS' t x <;> cases uS' t y
            · simp
              omega
            · simp
              omega
            · simp
              omega
            · simp
              omega
          have := mg_b ht zx zy both.2 both.1
          rw [this, fi_self]
          split <;> rfl
      · have e : ordT True (upk t x) (upk t y) = ordU (upk t x) (upk t y) := by
          unfold ordT
          refine fi_neg (fun z => c0 ?_)
          unfold ordU
          rw [if_pos ⟨z.1, z.2.1⟩]
        rw [e]
        unfold lsB
        rw [if_neg c0]
        rcases (show r = 0 ∨ r = 1 by omega) with w | w <;> subst w
        · by_cases c2 : ordU (upk t x) (upk t y) < 0
          · rw [if_pos (by rw [decide_eq_true c2]; rfl), fi_pos (Or.inl ⟨rfl, by omega⟩)]
          · rw [if_neg (by rw [decide_eq_false c2]; decide), fi_neg (by omega)]
        · by_cases c2 : ordU (upk t x) (upk t y) < 0
          · rw [if_neg (by rw [decide_eq_true c2]; decide), fi_neg (by omega)]
          · rw [if_pos (by rw [decide_eq_false c2]; rfl), fi_pos (Or.inr ⟨by decide, by omega⟩)]
end Tw
