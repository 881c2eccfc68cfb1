/-! floats: what comes out (kind, sign, number, scale, more), and its bits; the twin's sums -/
set_option maxRecDepth 100000
abbrev Rt : Type := Nat × Bool × Nat × Int × Bool
def finF (t md : Nat) (R : Rt) : Nat × Nat := if R.1 = 0 then (pk t R.2.1 0 0, 0) else if R.1 = 1 then rnd t md R.2.1 R.2.2.1 R.2.2.2.1 R.2.2.2.2 else if R.1 = 2 then (pk t R.2.1 (2 * fG t + 1) 0, 0) else (qN t, 0)
/-- a sum of two at the same scale, not both 0 -/
def smN (md : Nat) (s z : Bool) (A B : Nat) (m : Int) : Rt :=
  if s = z then (1, s, A + B, m, false) else if A = B then (0, decide (md = 2), 0, 0, false) else if A < B then (1, z, B - A, m, false) else (1, s, A - B, m, false)
def adN (md : Nat) (s : Bool) (A : Nat) (p : Int) (z : Bool) (B : Nat) (q : Int) : Rt :=
  if A = 0 ∧ B = 0 then (0, if s = z then s else decide (md = 2), 0, 0, false) else if A = 0 then (1, z, B, q, false) else if B = 0 then (1, s, A, p, false)
  else smN md s z (A * 2 ^ (p - (if p ≤ q then p else q)).toNat) (B * 2 ^ (q - (if p ≤ q then p else q)).toNat) (if p ≤ q then p else q)
theorem bz_ii {s z : Bool} : bz (s = true) = bz (z = true) ↔ s = z := by
  cases s <;> cases z
  · simp
  · rw [bz_f (by decide), bz_t rfl]
    exact ⟨fun h => absurd h (by decide), fun h => by cases h⟩
  · rw [bz_t rfl, bz_f (by decide)]
    exact ⟨fun h => absurd h (by decide), fun h => by cases h⟩
  · simp
section Ts
variable {M N : FM} {f A B md t : Nat} {s z : Bool} {sc p q m : Int}
theorem X99_zero (ht : t ≤ 1) (sg : Bool) : GX99_zero f (bz (sg = true)) (nI t) M = (lN (pk t sg 0 0), M) := by
  unfold GX99_zero GX99_zero_0
  dsimp only
  rw [show Int64.ofInt 0 = lN 0 from rfl, X99_pack ht (Nat.two_pow_pos _) (Or.inl (Nat.two_pow_pos _))]
theorem bh_I {g i : Nat} {v : Int32} {a : Nat} (hg : g ≠ 3) (h : BH M a A) : BH (fm_sI M g f i v) a A := ⟨h.1, fun k hk => by rw [oI (fun q => hg q.1.symm)]; exact h.2 k hk⟩
theorem fl_one (o : FlO f M) : fm_is M 901 901 (M.2.2 379 f 0) = true ∧ M.2.2 1 (M.2.2 379 f 0) 0 = 220 ∧ fm_is M 901 901 (M.2.2 380 f 0) = true ∧ M.2.2 1 (M.2.2 380 f 0) 0 = 220 ∧ M.2.2 380 f 0 ≠ M.2.2 379 f 0 :=
  ⟨tN_379 o.1.1 o.2.1, tL_379 o.1.1 o.2.1, tN_380 o.1.1 o.2.1, tL_380 o.1.1 o.2.1, o.2.2.1 380 (by decide) 379 (by decide) (by decide)⟩
theorem X99_s252 (o : FlO f M) (ht : t ≤ 1) (hm : md ≤ 4) (hB : BH M (M.2.2 379 f 0) A) (hA : A ≠ 0) (hs : M.1 382 f 0 = bz (s = true)) (hc : M.1 383 f 0 = Int32.ofInt sc) (ho : M.1 381 f 0 = Int32.ofInt 0) (hsc : -9000 ≤ sc ∧ sc ≤ 9000) :
    ∃ X, (HX99_sum_252 f (nI t) (nI md) M ∧ GX99_sum_252 f (nI t) (nI md) M = (lN (rnd t md s A sc false).1, X)) ∧ Rs f (rnd t md s A sc false).2 M X := by
  obtain ⟨X, ⟨x1, x2⟩, x3⟩ := X99_rounded (mo := false) o ht hm hB hA hs hc (by rw [ho, bz_f (by decide)]) hsc
  refine ⟨X, ⟨⟨x1, trivial⟩, ?_⟩, x3⟩
  unfold GX99_sum_252
  dsimp only
  rw [x2]
theorem X99_s192 (o : FlO f M) (ht : t ≤ 1) (hm : md ≤ 4) (hA : BH M (M.2.2 379 f 0) A) (hB : BH M (M.2.2 380 f 0) B) (h0 : ¬ (A = 0 ∧ B = 0)) (hne : s ≠ z → A ≠ B) (hlt : A + B < 2 ^ bD) (hc : M.1 383 f 0 = Int32.ofInt m) (ho : M.1 381 f 0 = Int32.ofInt 0) (hsc : -9000 ≤ m ∧ m ≤ 9000) :
    ∃ X, (HX99_sum_192 f (bz (s = true)) (bz (z = true)) (nI t) (nI md) (cmI A B) f (bz ((if A < B then z else s) = true)) M ∧
      GX99_sum_192 f (bz (s = true)) (bz (z = true)) (nI t) (nI md) (cmI A B) f (bz ((if A < B then z else s) = true)) M = (lN (finF t md (smN md s z A B m)).1, X)) ∧ Rs f (finF t md (smN md s z A B m)).2 M X := by
  have r1 := rs_i (g := 382) (f := f) (v := bz ((if A < B then z else s) = true)) (Or.inl rfl) o.1
  have o1 := frF_o o r1.1
  obtain ⟨n1, l1, n2, l2, ne⟩ := fl_one o1
  have A1 : BH (fm_sI M 382 f 0 (bz ((if A < B then z else s) = true))) (M.2.2 379 f 0) A := bh_I (by decide) hA
  have B1 : BH (fm_sI M 382 f 0 (bz ((if A < B then z else s) = true))) (M.2.2 380 f 0) B := bh_I (by decide) hB
  have c1 : (fm_sI M 382 f 0 (bz ((if A < B then z else s) = true))).1 383 f 0 = Int32.ofInt m := (oI (fun q => by omega)).trans hc
  have d1 : (fm_sI M 382 f 0 (bz ((if A < B then z else s) = true))).1 381 f 0 = Int32.ofInt 0 := (oI (fun q => by omega)).trans ho
  have e1 : (fm_sI M 382 f 0 (bz ((if A < B then z else s) = true))).1 382 f 0 = bz ((if A < B then z else s) = true) := sI_at _ _ _ _ _
  have e2 : ∀ g, (fm_sI M 382 f 0 (bz ((if A < B then z else s) = true))).2.2 g f 0 = M.2.2 g f 0 := fun _ => rfl
  unfold HX99_sum_192 GX99_sum_192
  dsimp only
  rw [e2, e2]
  generalize fm_sI M 382 f 0 (bz ((if A < B then z else s) = true)) = K at *
  rw [e2] at n1 l1 ne
  rw [e2] at n2 l2 ne
  -- behind the work on the row
  have fin2 : ∀ (Y : FM) (D : Nat), AOk (M.2.2 379 f 0) K Y → BH Y (M.2.2 379 f 0) D → D ≠ 0 → ∃ X, (HX99_sum_252 f (nI t) (nI md) Y ∧ GX99_sum_252 f (nI t) (nI md) Y = (lN (rnd t md (if A < B then z else s) D m false).1, X)) ∧ Rs f (rnd t md (if A < B then z else s) D m false).2 M X := fun Y D y1 y2 y3 => by
    have rY := rs_a (f := f) (M := K) (Or.inl (e2 379).symm) y1
    have oY := frF_o o1 rY.1
    have eY : Y.2.2 379 f 0 = M.2.2 379 f 0 := by rw [y1.2.1]; exact e2 379
    obtain ⟨X, x1, x2⟩ := X99_s252 (M := Y) (A := D) oY ht hm (by rw [eY]; exact y2) y3 (s := if A < B then z else s) (by rw [y1.2.2 382 f 0 (fun q => by omega)]; exact e1) (sc := m) (by rw [y1.2.2 383 f 0 (fun q => by omega)]; exact c1) (by rw [y1.2.2 381 f 0 (fun q => by omega)]; exact d1) hsc
    exact ⟨X, x1, rs_0t r1 (rs_0t rY x2)⟩
  have cm : cmI A B ≤ 0 ↔ A ≤ B := by
    unfold cmI
    by_cases q : A < B
    · rw [fi_pos q]
      exact ⟨fun _ => by omega, fun _ => by decide⟩
    · rw [fi_neg q]
      by_cases q2 : B < A
      · rw [fi_pos q2]
        exact ⟨fun h => absurd h (by decide), fun h => by omega⟩
      · rw [fi_neg q2]
        exact ⟨fun _ => by omega, fun _ => by decide⟩
  rw [propext bz_ii, propext cm]
  by_cases q : s = z
  · obtain ⟨Y, ⟨y1, y2⟩, y3, y4⟩ := X99_add o1.1 n1 n2 l1 l2 ne A1 B1 hlt
    obtain ⟨X, ⟨x1, x2⟩, x3⟩ := fin2 Y (A + B) y3 y4 (by omega)
    have es : (if A < B then z else s) = s := by rw [q]; split <;> rfl
    rw [es] at x2 x3
    have ef : finF t md (smN md s z A B m) = rnd t md s (A + B) m false := by
      unfold smN
      rw [if_pos q]
      rfl
    rw [fi_pos q, ef, y2]
    exact ⟨X, ⟨⟨fun _ => ⟨y1, x1⟩, fun w => absurd q w⟩, x2⟩, x3⟩
  · have nAB := hne q
    rw [fi_neg q]
    by_cases q2 : A ≤ B
    · have lt : A < B := by omega
      obtain ⟨Y, ⟨y1, y2⟩, y3, y4⟩ := X99_subtract o1.1 n2 n1 n1 l2 l1 l1 B1 A1 q2
      obtain ⟨X, ⟨x1, x2⟩, x3⟩ := fin2 Y (B - A) y3 y4 (by omega)
      rw [if_pos lt] at x2 x3
      have ef : finF t md (smN md s z A B m) = rnd t md z (B - A) m false := by
        unfold smN
        rw [if_neg q, if_neg nAB, if_pos lt]
        rfl
      rw [fi_pos q2, ef, y2]
      exact ⟨X, ⟨⟨fun w => absurd w q, fun _ => ⟨fun _ => ⟨y1, x1⟩, fun w => absurd q2 w⟩⟩, x2⟩, x3⟩
    · obtain ⟨Y, ⟨y1, y2⟩, y3, y4⟩ := X99_subtract o1.1 n1 n2 n1 l1 l2 l1 A1 B1 (by omega)
      obtain ⟨X, ⟨x1, x2⟩, x3⟩ := fin2 Y (A - B) y3 y4 (by omega)
      have nlt : ¬ A < B := by omega
      rw [if_neg nlt] at x2 x3
      have ef : finF t md (smN md s z A B m) = rnd t md s (A - B) m false := by
        unfold smN
        rw [if_neg q, if_neg nAB, if_neg nlt]
        rfl
      rw [fi_neg q2, ef, y2]
      exact ⟨X, ⟨⟨fun w => absurd w q, fun _ => ⟨fun w => absurd w q2, fun _ => ⟨y1, x1⟩⟩⟩, x2⟩, x3⟩
theorem X99_s135 (o : FlO f M) (ht : t ≤ 1) (hm : md ≤ 4) (hA : BH M (M.2.2 379 f 0) A) (hB : BH M (M.2.2 380 f 0) B) (h0 : ¬ (A = 0 ∧ B = 0)) (hlt : A + B < 2 ^ bD) (hc : M.1 383 f 0 = Int32.ofInt m) (hsc : -9000 ≤ m ∧ m ≤ 9000) :
    ∃ X, (HX99_sum_135 f (bz (s = true)) (bz (z = true)) (nI t) (nI md) M ∧ GX99_sum_135 f (bz (s = true)) (bz (z = true)) (nI t) (nI md) M = (lN (finF t md (smN md s z A B m)).1, X)) ∧ Rs f (finF t md (smN md s z A B m)).2 M X := by
  obtain ⟨n1, l1, n2, l2, ne⟩ := fl_one o
  obtain ⟨k1, k2⟩ := X99_compare o.1 n1 n2 l1 l2 hA hB
  unfold HX99_sum_135 GX99_sum_135
  dsimp only
  rw [k2]
  dsimp only
  have c0 : cmI A B = 0 ↔ A = B := by
    unfold cmI
    by_cases q : A < B
    · rw [fi_pos q]
      exact ⟨fun h => absurd h (by decide), fun h => by omega⟩
    · rw [fi_neg q]
      by_cases q2 : B < A
      · rw [fi_pos q2]
        exact ⟨fun h => absurd h (by decide), fun h => by omega⟩
      · rw [fi_neg q2]
        exact ⟨fun _ => by omega, fun _ => rfl⟩
  have cg : 0 ≤ cmI A B ↔ ¬ A < B := by
    unfold cmI
    by_cases q : A < B
    · rw [fi_pos q]
      exact ⟨fun h => absurd h (by decide), fun h => absurd q h⟩
    · rw [fi_neg q]
      by_cases q2 : B < A
      · rw [fi_pos q2]
        exact ⟨fun _ => q, fun _ => by decide⟩
      · rw [fi_neg q2]
        exact ⟨fun _ => q, fun _ => by decide⟩
  have r176 : (s ≠ z → A ≠ B) → ∃ X, (HX99_sum_176 f (bz (s = true)) (bz (z = true)) (nI t) (nI md) (cmI A B) M ∧ GX99_sum_176 f (bz (s = true)) (bz (z = true)) (nI t) (nI md) (cmI A B) M = (lN (finF t md (smN md s z A B m)).1, X)) ∧ Rs f (finF t md (smN md s z A B m)).2 M X := fun hne => by
    have r1 := rs_m (f := f) (c := False) o.1
    rw [← bz0] at r1
    have o1 := frF_o o r1.1
    obtain ⟨X, ⟨x1, x2⟩, x3⟩ := X99_s192 (s := s) (z := z) (m := m) o1 ht hm (bh_I (by decide) hA) (bh_I (by decide) hB) h0 hne hlt ((oI (fun q => by omega)).trans hc) (sI_at _ _ _ _ _) hsc
    unfold HX99_sum_176 GX99_sum_176
    dsimp only
    rw [propext cg]
    by_cases q : A < B
    · rw [if_pos q] at x1 x2
      rw [fi_neg (fun w => w q)]
      exact ⟨X, ⟨⟨fun w => absurd q w, fun _ => x1⟩, x2⟩, rs_0t r1 x3⟩
    · rw [if_neg q] at x1 x2
      rw [fi_pos q]
      exact ⟨X, ⟨⟨fun _ => x1, fun w => absurd q w⟩, x2⟩, rs_0t r1 x3⟩
  rw [propext bz_ii, propext c0]
  by_cases q : s = z
  · obtain ⟨X, ⟨x1, x2⟩, x3⟩ := r176 (fun w => absurd q w)
    rw [fi_pos q]
    exact ⟨X, ⟨⟨k1, fun _ => x1, fun w => absurd q w⟩, x2⟩, x3⟩
  · rw [fi_neg q]
    by_cases q2 : A = B
    · have ef : finF t md (smN md s z A B m) = (pk t (decide (md = 2)) 0 0, 0) := by
        unfold smN
        rw [if_neg q, if_pos q2]
        rfl
      rw [fi_pos q2, ef]
      refine ⟨M, ⟨⟨k1, fun w => absurd w q, fun _ => ⟨fun _ => trivial, fun w => absurd q2 w⟩⟩, ?_⟩, rs_r o.1⟩
      unfold GX99_sum_170
      dsimp only
      have z1 := X99_zero (f := f) (M := M) ht true
      have z0 := X99_zero (f := f) (M := M) ht false
      rw [bz_t rfl] at z1
      rw [bz_f (by decide)] at z0
      rw [z1, z0, propext (ni_eq (k := md) (z := 2) (by omega))]
      by_cases q3 : md = 2
      · rw [fi_pos (show (md : Int) = 2 by omega), decide_eq_true q3]
      · rw [fi_neg (show ¬ (md : Int) = 2 by omega), decide_eq_false q3]
    · obtain ⟨X, ⟨x1, x2⟩, x3⟩ := r176 (fun _ => q2)
      rw [fi_neg q2]
      exact ⟨X, ⟨⟨k1, fun w => absurd w q, fun _ => ⟨fun w => absurd w q2, fun _ => x1⟩⟩, x2⟩, x3⟩
/-- a sum of two numbers, each with its own scale -/
theorem X99_sum (o : FlO f M) (ht : t ≤ 1) (hm : md ≤ 4) (hA : BH M (M.2.2 379 f 0) A) (hB : BH M (M.2.2 380 f 0) B) (bA : bln A ≤ 110) (bB : bln B ≤ 110) (hp : -3300 ≤ p ∧ p ≤ 3300 ∧ -3300 ≤ q ∧ q ≤ 3300 ∧ p - q ≤ 3400 ∧ q - p ≤ 3400) :
    ∃ X, (HX99_sum f (bz (s = true)) (Int32.ofInt p) (bz (z = true)) (Int32.ofInt q) (nI t) (nI md) M ∧ GX99_sum f (bz (s = true)) (Int32.ofInt p) (bz (z = true)) (Int32.ofInt q) (nI t) (nI md) M = (lN (finF t md (adN md s A p z B q)).1, X)) ∧
      Rs f (finF t md (adN md s A p z B q)).2 M X := by
  obtain ⟨n1, l1, n2, l2, ne⟩ := fl_one o
  obtain ⟨a1, a2⟩ := X99_length o.1 n1 l1 hA
  obtain ⟨b1, b2⟩ := X99_length o.1 n2 l2 hB
  have pw : ∀ (D : Nat) (k : Nat), bln D ≤ 110 → k ≤ 3408 → D * 2 ^ k < 2 ^ (3519 : Nat) := fun D k h1 h2 => by
    refine Nat.lt_of_lt_of_le (Nat.mul_lt_mul_of_pos_right (bln_lt D) (Nat.two_pow_pos k)) ?_
    rw [← Nat.pow_add]
    exact Nat.pow_le_pow_right (by decide) (by omega)
  have hb : ∀ x y : Nat, x < 2 ^ (3519 : Nat) → y < 2 ^ (3519 : Nat) → x + y < 2 ^ bD := fun x y hx hy => by
    have e : 2 ^ bD = 2 ^ (3519 : Nat) + 2 ^ (3519 : Nat) := by rw [show bD = 3519 + 1 from rfl, Nat.pow_succ, Nat.mul_two]
    rw [e]
    exact Nat.add_lt_add hx hy
  have hb1 : ∀ x : Nat, x < 2 ^ (3519 : Nat) → x < 2 ^ bD := fun x hx => Nat.lt_of_lt_of_le hx (Nat.pow_le_pow_right (by decide) (by decide))
  have p0 := pw A 0 bA (by decide)
  have q0 := pw B 0 bB (by decide)
  rw [Nat.pow_zero, Nat.mul_one] at p0 q0
  have r115 : (A = 0 ∨ B = 0) → ¬ (A = 0 ∧ B = 0) → ∃ X, (HX99_sum_115 f (bz (s = true)) (Int32.ofInt p) (bz (z = true)) (Int32.ofInt q) (nI t) (nI md) M ∧ GX99_sum_115 f (bz (s = true)) (Int32.ofInt p) (bz (z = true)) (Int32.ofInt q) (nI t) (nI md) M = (lN (finF t md (adN md s A p z B q)).1, X)) ∧
      Rs f (finF t md (adN md s A p z B q)).2 M X := fun h1 h2 => by
    have r132 : ∀ m : Int, -9000 ≤ m ∧ m ≤ 9000 → ∃ X, (HX99_sum_132 f (bz (s = true)) (bz (z = true)) (nI t) (nI md) f (Int32.ofInt m) M ∧ GX99_sum_132 f (bz (s = true)) (bz (z = true)) (nI t) (nI md) f (Int32.ofInt m) M = (lN (finF t md (smN md s z A B m)).1, X)) ∧ Rs f (finF t md (smN md s z A B m)).2 M X := fun m hm2 => by
      have r1 := rs_i (g := 383) (f := f) (v := Int32.ofInt m) (Or.inr rfl) o.1
      obtain ⟨X, ⟨x1, x2⟩, x3⟩ := X99_s135 (s := s) (z := z) (m := m) (frF_o o r1.1) ht hm (bh_I (by decide) hA) (bh_I (by decide) hB) h2 (hb _ _ p0 q0) (sI_at _ _ _ _ _) hm2
      exact ⟨X, ⟨x1, x2⟩, rs_0t r1 x3⟩
    unfold HX99_sum_115 GX99_sum_115
    dsimp only
    rw [a2]
    dsimp only
    rw [propext (show nI (bln A) ≤ 0 ↔ ((bln A : Nat) : Int) ≤ 0 from ni_le (z := 0) (by omega))]
    by_cases qa : A = 0
    · have e : smN md s z A B q = adN md s A p z B q := by
        unfold adN smN
        rw [if_neg h2, if_pos qa]
        subst qa
        rw [if_neg (show ¬ 0 = B from fun w => h2 ⟨rfl, w.symm⟩), if_pos (show 0 < B by omega), Nat.zero_add, Nat.sub_zero]
        by_cases w : s = z
        · rw [if_pos w, w]
        · rw [if_neg w]
      obtain ⟨X, ⟨x1, x2⟩, x3⟩ := r132 q (by omega)
      rw [e] at x2 x3
      have c0 : ((bln A : Nat) : Int) ≤ 0 := by rw [qa, bln_0]; decide
      rw [fi_pos c0]
      exact ⟨X, ⟨⟨a1, fun _ => x1, fun w => absurd c0 w⟩, x2⟩, x3⟩
    · have qb : B = 0 := h1.resolve_left qa
      have e : smN md s z A B p = adN md s A p z B q := by
        unfold adN smN
        rw [if_neg h2, if_neg qa, if_pos qb]
        subst qb
        rw [if_neg qa, if_neg (show ¬ A < 0 by omega), Nat.add_zero, Nat.sub_zero]
        by_cases w : s = z
        · rw [if_pos w]
        · rw [if_neg w]
      obtain ⟨X, ⟨x1, x2⟩, x3⟩ := r132 p (by omega)
      rw [e] at x2 x3
      have c0 : ¬ ((bln A : Nat) : Int) ≤ 0 := by have := bln_pos qa; omega
      rw [fi_neg c0]
      exact ⟨X, ⟨⟨a1, fun w => absurd w c0, fun _ => x1⟩, x2⟩, x3⟩
  have r82 : A ≠ 0 → B ≠ 0 → ∃ X, (HX99_sum_82 f (bz (s = true)) (Int32.ofInt p) (bz (z = true)) (Int32.ofInt q) (nI t) (nI md) f (Int32.ofInt (if p ≤ q then p else q)) M ∧ GX99_sum_82 f (bz (s = true)) (Int32.ofInt p) (bz (z = true)) (Int32.ofInt q) (nI t) (nI md) f (Int32.ofInt (if p ≤ q then p else q)) M = (lN (finF t md (adN md s A p z B q)).1, X)) ∧
      Rs f (finF t md (adN md s A p z B q)).2 M X := fun hA0 hB0 => by
    have ea : adN md s A p z B q = smN md s z (A * 2 ^ (p - (if p ≤ q then p else q)).toNat) (B * 2 ^ (q - (if p ≤ q then p else q)).toNat) (if p ≤ q then p else q) := by
      unfold adN
      rw [if_neg (fun w => hA0 w.1), if_neg hA0, if_neg hB0]
    rw [ea]
    generalize hmm : (if p ≤ q then p else q) = m
    have bm : m ≤ p ∧ m ≤ q ∧ -3300 ≤ m ∧ p - m ≤ 3400 ∧ q - m ≤ 3400 := by split at hmm <;> omega
    have r1 := rs_i (g := 383) (f := f) (v := Int32.ofInt m) (Or.inr rfl) o.1
    have o1 := frF_o o r1.1
    have e383 : (fm_sI M 383 f 0 (Int32.ofInt m)).1 383 f 0 = Int32.ofInt m := sI_at _ _ _ _ _
    obtain ⟨Y, ⟨y1, y2⟩, y3, y4⟩ := X99_raise (M := fm_sI M 383 f 0 (Int32.ofInt m)) o1.1 n1 l1 (bh_I (by decide) hA) (p := (p - m).toNat) (by omega) (hb1 _ (pw _ _ bA (by omega)))
    have rY := rs_a (f := f) (M := fm_sI M 383 f 0 (Int32.ofInt m)) (Or.inl rfl) y3
    have oY := frF_o o1 rY.1
    have eY : ∀ g, Y.2.2 g f 0 = M.2.2 g f 0 := fun g => by rw [y3.2.1]; rfl
    have By : BH Y (M.2.2 380 f 0) B := aok_b y3 ne (bh_I (by decide) hB)
    obtain ⟨Z, ⟨z1, z2⟩, z3, z4⟩ := X99_raise (M := Y) oY.1 (aok_is y3 n2) (aok_ln y3 l2) By (p := (q - m).toNat) (by omega) (hb1 _ (pw _ _ bB (by omega)))
    have rZ := rs_a (f := f) (M := Y) (Or.inr (eY 380).symm) z3
    have oZ := frF_o oY rZ.1
    have eZ : ∀ g, Z.2.2 g f 0 = M.2.2 g f 0 := fun g => by rw [z3.2.1]; exact eY g
    have Ay : BH Z (M.2.2 379 f 0) (A * 2 ^ (p - m).toNat) := aok_b z3 (fun w => ne w.symm) y4
    have Y383 : Y.1 383 f 0 = Int32.ofInt m := by rw [y3.2.2 383 f 0 (fun w => by omega)]; exact e383
    have cp : Int32.ofInt p - Int32.ofInt m = nI (p - m).toNat := by rw [iz_s, iz_nI]; congr 1; omega
    have cq : Int32.ofInt q - Int32.ofInt m = nI (q - m).toNat := by rw [iz_s, iz_nI]; congr 1; omega
    have nz : ∀ D k : Nat, D ≠ 0 → D * 2 ^ k ≠ 0 := fun D k h => Nat.mul_ne_zero h (Nat.ne_of_gt (Nat.two_pow_pos k))
    obtain ⟨X, ⟨x1, x2⟩, x3⟩ := X99_s135 (M := Z) (s := s) (z := z) (m := m) oZ ht hm (by rw [eZ]; exact Ay) (by rw [eZ]; exact z4) (fun w => nz _ _ hA0 w.1) (hb _ _ (pw _ _ bA (by omega)) (pw _ _ bB (by omega))) (by rw [z3.2.2 383 f 0 (fun w => by omega)]; exact Y383) (by omega)
    refine ⟨X, ⟨?_, ?_⟩, rs_0t r1 (rs_0t rY (rs_0t rZ x3))⟩
    · unfold HX99_sum_82
      dsimp only
      rw [e383, cp]
      refine ⟨y1, ?_⟩
      rw [show GX99_raise ((fm_sI M 383 f 0 (Int32.ofInt m)).2.2 379 f 0) (nI (p - m).toNat) (fm_sI M 383 f 0 (Int32.ofInt m)) = Y from y2, Y383, cq, eY]
      refine ⟨z1, ?_⟩
      rw [z2]
      exact x1
    · rw [← x2]
      unfold GX99_sum_82
      dsimp only
      rw [e383, cp, show GX99_raise ((fm_sI M 383 f 0 (Int32.ofInt m)).2.2 379 f 0) (nI (p - m).toNat) (fm_sI M 383 f 0 (Int32.ofInt m)) = Y from y2, Y383, cq, eY, z2]
  unfold HX99_sum HX99_sum_0 GX99_sum GX99_sum_0
  dsimp only
  rw [a2]
  dsimp only
  rw [b2]
  dsimp only
  rw [a2]
  dsimp only
  rw [b2]
  dsimp only
  rw [nI_a, propext (show nI (bln A + bln B) = 0 ↔ ((bln A + bln B : Nat) : Int) = 0 from ni_eq (z := 0) (by omega)), propext (show nI (bln A) ≤ 0 ↔ ((bln A : Nat) : Int) ≤ 0 from ni_le (z := 0) (by omega)), propext (show nI (bln B) ≤ 0 ↔ ((bln B : Nat) : Int) ≤ 0 from ni_le (z := 0) (by omega)), propext bz_ii, propext (iz_le (a := q) (b := p) (by omega))]
  by_cases qz : A = 0 ∧ B = 0
  · have c0 : ((bln A + bln B : Nat) : Int) = 0 := by rw [qz.1, qz.2]; rfl
    have ef : finF t md (adN md s A p z B q) = (pk t (if s = z then s else decide (md = 2)) 0 0, 0) := by
      unfold adN
      rw [if_pos qz]
      rfl
    rw [fi_pos c0, ef]
    refine ⟨M, ⟨⟨a1, b1, fun _ => trivial, fun w => absurd c0 w⟩, ?_⟩, rs_r o.1⟩
    unfold GX99_sum_43
    dsimp only
    have z1 := X99_zero (f := f) (M := M) ht true
    have z0 := X99_zero (f := f) (M := M) ht false
    rw [bz_t rfl] at z1
    rw [bz_f (by decide)] at z0
    rw [z1, z0, X99_zero ht, propext (ni_eq (k := md) (z := 2) (by omega))]
    by_cases w : s = z
    · rw [fi_pos w, if_pos w]
    · rw [fi_neg w, if_neg w]
      by_cases q3 : md = 2
      · rw [fi_pos (show (md : Int) = 2 by omega), decide_eq_true q3]
      · rw [fi_neg (show ¬ (md : Int) = 2 by omega), decide_eq_false q3]
  · have c0 : ¬ ((bln A + bln B : Nat) : Int) = 0 := fun w => qz ⟨bln_z.mp (by omega), bln_z.mp (by omega)⟩
    rw [fi_neg c0]
    by_cases qa : A = 0
    · have ca : ((bln A : Nat) : Int) ≤ 0 := by rw [qa, bln_0]; decide
      obtain ⟨X, ⟨x1, x2⟩, x3⟩ := r115 (Or.inl qa) qz
      rw [fi_pos ca]
      exact ⟨X, ⟨⟨a1, b1, fun w => absurd w c0, fun _ => ⟨a1, fun _ => x1, fun w => absurd ca w⟩⟩, x2⟩, x3⟩
    · have ca : ¬ ((bln A : Nat) : Int) ≤ 0 := by have := bln_pos qa; omega
      rw [fi_neg ca]
      by_cases qb : B = 0
      · have cb : ((bln B : Nat) : Int) ≤ 0 := by rw [qb, bln_0]; decide
        obtain ⟨X, ⟨x1, x2⟩, x3⟩ := r115 (Or.inr qb) qz
        rw [fi_pos cb]
        exact ⟨X, ⟨⟨a1, b1, fun w => absurd w c0, fun _ => ⟨a1, fun w => absurd w ca, fun _ => ⟨b1, fun _ => x1, fun w => absurd cb w⟩⟩⟩, x2⟩, x3⟩
      · have cb : ¬ ((bln B : Nat) : Int) ≤ 0 := by have := bln_pos qb; omega
        obtain ⟨X, ⟨x1, x2⟩, x3⟩ := r82 qa qb
        rw [fi_neg cb]
        by_cases w : q ≤ p
        · have em : Int32.ofInt (if p ≤ q then p else q) = Int32.ofInt q := by congr 1; split <;> omega
          rw [em] at x1 x2
          rw [fi_pos w]
          exact ⟨X, ⟨⟨a1, b1, fun w => absurd w c0, fun _ => ⟨a1, fun w => absurd w ca, fun _ => ⟨b1, fun w => absurd w cb, fun _ => ⟨fun _ => x1, fun y => absurd w y⟩⟩⟩⟩, x2⟩, x3⟩
        · have em : Int32.ofInt (if p ≤ q then p else q) = Int32.ofInt p := by congr 1; split <;> omega
          rw [em] at x1 x2
          rw [fi_neg w]
          exact ⟨X, ⟨⟨a1, b1, fun w => absurd w c0, fun _ => ⟨a1, fun w => absurd w ca, fun _ => ⟨b1, fun w => absurd w cb, fun _ => ⟨fun y => absurd y w, fun _ => x1⟩⟩⟩⟩, x2⟩, x3⟩
end Ts
