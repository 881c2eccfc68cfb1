/-! floats: the twin: no number, infinite ones, sums and products, fused ones, other formats -/
set_option maxRecDepth 100000
def gdU (x : UU) : Prop := x.1 ≤ 4 ∧ x.2.2.1 < 2 ^ 54 ∧ (-1100 ≤ x.2.2.2 ∧ x.2.2.2 ≤ 1100) ∧ (x.1 ≤ 1 → (x.2.2.1 = 0 ↔ x.1 = 0))
theorem upk_g {t : Nat} (ht : t ≤ 1) (b : Int64) : gdU (upk t b) := by
  obtain ⟨p, -⟩ := p2F ht
  have := uZ_lt t b
  refine ⟨uK_le t b, ?_, uP_b ht b, uZ_0 t⟩
  show uZ t b < 18014398509481984
  omega
def opB1 (t md a : Nat) (R : Rt × Nat) : Nat × Nat := if 3 ≤ a then (qN t, if a = 4 then 16 else 0) else ((finF t md R.1).1, R.2 ||| (finF t md R.1).2)
def opB2 (t md a b : Nat) (R : Rt × Nat) : Nat × Nat := if 3 ≤ a ∨ 3 ≤ b then (qN t, if a = 4 ∨ b = 4 then 16 else 0) else ((finF t md R.1).1, R.2 ||| (finF t md R.1).2)
def addR (md : Nat) (X Y : UU) : Rt × Nat :=
  if X.1 = 2 ∧ Y.1 = 2 ∧ X.2.1 ≠ Y.2.1 then ((3, false, 0, 0, false), 16) else if X.1 = 2 then ((2, X.2.1, 0, 0, false), 0) else if Y.1 = 2 then ((2, Y.2.1, 0, 0, false), 0)
  else (adN md X.2.1 X.2.2.1 X.2.2.2 Y.2.1 Y.2.2.1 Y.2.2.2, 0)
def mulR (X Y : UU) : Rt × Nat :=
  if X.1 = 2 ∧ Y.1 = 0 ∨ X.1 = 0 ∧ Y.1 = 2 then ((3, false, 0, 0, false), 16) else if X.1 = 2 ∨ Y.1 = 2 then ((2, X.2.1 ^^ Y.2.1, 0, 0, false), 0)
  else if X.1 = 0 ∨ Y.1 = 0 then ((0, X.2.1 ^^ Y.2.1, 0, 0, false), 0) else ((1, X.2.1 ^^ Y.2.1, X.2.2.1 * Y.2.2.1, X.2.2.2 + Y.2.2.2, false), 0)
/-- a product, and one that is added -/
def fusR (t md : Nat) (X Y Z : UU) (a b : Bool) : Nat × Nat :=
  if X.1 = 2 ∧ Y.1 = 0 ∨ X.1 = 0 ∧ Y.1 = 2 then (qN t, 16) else if 3 ≤ X.1 ∨ 3 ≤ Y.1 ∨ 3 ≤ Z.1 then (qN t, if X.1 = 4 ∨ Y.1 = 4 ∨ Z.1 = 4 then 16 else 0)
  else if X.1 = 2 ∨ Y.1 = 2 then (if Z.1 = 2 ∧ ((X.2.1 ^^ Y.2.1) ^^ a) ≠ (Z.2.1 ^^ b) then (qN t, 16) else (pk t ((X.2.1 ^^ Y.2.1) ^^ a) (2 * fG t + 1) 0, 0))
  else if Z.1 = 2 then (pk t (Z.2.1 ^^ b) (2 * fG t + 1) 0, 0)
  else finF t md (adN md ((X.2.1 ^^ Y.2.1) ^^ a) (X.2.2.1 * Y.2.2.1) (X.2.2.2 + Y.2.2.2) (Z.2.1 ^^ b) Z.2.2.1 Z.2.2.2)
theorem bz_x (a b : Bool) : bz (a = true) ^^^ bz (b = true) = bz ((a ^^ b) = true) := by
  have t1 : bz (true = true) = Int32.ofInt 1 := bz_t rfl
  have t0 : bz (false = true) = Int32.ofInt 0 := bz_f (by decide)
  cases a <;> cases b
  · show bz (false = true) ^^^ bz (false = true) = bz (false = true)
    rw [t0]
    rfl
  · show bz (false = true) ^^^ bz (true = true) = bz (true = true)
    rw [t0, t1]
    rfl
  · show bz (true = true) ^^^ bz (false = true) = bz (true = true)
    rw [t0, t1]
    rfl
  · show bz (true = true) ^^^ bz (true = true) = bz (false = true)
    rw [t0, t1]
    rfl
theorem qN_ne {t : Nat} (ht : t ≤ 1) : ¬ lg_cmp (lN (qN t)) (Int64.ofInt (-1)) = 0 := by
  rw [cl_eq]
  rcases (show t = 0 ∨ t = 1 by omega) with e | e <;> subst e <;> decide
theorem m1_eq : lg_cmp (Int64.ofInt (-1)) (Int64.ofInt (-1)) = 0 := cl_eq.mpr rfl
theorem ni_i {a b : Nat} (ha : a ≤ 1000) (hb : b ≤ 1000) : nI a = nI b ↔ a = b := ⟨fun h => nI_j (by omega) (by omega) h, fun h => by rw [h]⟩
section Nn
variable {M N : FM} {f md t n : Nat} {X Y Z : UU}
theorem X99_invalid (o : FlO f M) (ht : t ≤ 1) : ∃ K, GX99_invalid f (nI t) M = (lN (qN t), K) ∧ Rs f 16 M K := by
  refine ⟨GX99_raiseFlags f (nI 16) M, ?_, X99_raiseFlags o.1 (by decide)⟩
  unfold GX99_invalid GX99_invalid_0
  dsimp only
  rw [X99_quiet ht]
  rfl
theorem X99_isNone {K : Nat → Nat} {k : Nat} (o : FlO f M) (hk : k < 3) (h : M.1 3 (M.2.2 375 f 0) k = nI (K k)) (h4 : K k ≤ 4) : HX99_isNone f (nI k) M ∧ GX99_isNone f (nI k) M = (bz (3 ≤ K k), M) := by
  refine ⟨⟨in_nI (tL_375 o.1.1 o.2.1) (by omega) (by decide), trivial⟩, ?_⟩
  unfold GX99_isNone GX99_isNone_0 GX99_isNone_15
  dsimp only
  rw [o_cl (by omega), h, propext (ni_lt (k := K k) (z := 3) (by omega))]
  by_cases q : 3 ≤ K k
  · rw [fi_neg (by omega), bz_t q]
  · rw [fi_pos (by omega), bz_f q]
theorem X99_none_L (o : FlO f M) (ht : t ≤ 1) (hn : n ≤ 3) (K : Nat → Nat) (hK : ∀ k, k < n → M.1 3 (M.2.2 375 f 0) k = nI (K k) ∧ K k ≤ 4) : ∀ (r k J : Nat), k + r = n → r < J →
    ∃ X, FX99_none_L8 fN J f (nI n) (nI t) (bz (∃ j, j < k ∧ 3 ≤ K j)) (bz (∃ j, j < k ∧ K j = 4)) (nI k) M = some (fi (∃ j, j < n ∧ 3 ≤ K j) (lN (qN t)) (Int64.ofInt (-1)), X) ∧ Rs f (fi (∃ j, j < n ∧ K j = 4) 16 0) M X ∧ (¬ (∃ j, j < n ∧ 3 ≤ K j) → X = M) := by
  intro r
  induction r with
  | zero =>
    intro k J hk hJ
    obtain ⟨J, rfl⟩ : ∃ x, J = x + 1 := ⟨J - 1, by omega⟩
    have hk : k = n := by omega
    subst hk
    have cc : nI k ≤ nI k := by rw [le_ti]; exact Int.le_refl _
    have G0 := (gX99_none_8 (FX99_none_L8 fN J) f (nI k) (nI t) (bz (∃ j, j < k ∧ 3 ≤ K j)) (bz (∃ j, j < k ∧ K j = 4)) (nI k) M o.1 o.2.1 ⟨fun _ => trivial, fun q => absurd cc q⟩).1
    unfold GX99_none_8 GX99_none_89 at G0
    dsimp only at G0
    rw [fi_pos cc, fi_bz, fi_bz, X99_quiet ht] at G0
    obtain ⟨L, l1, l2⟩ := X99_invalid (t := t) o ht
    rw [l1] at G0
    dsimp only at G0
    show ∃ X, FX99_none_8 fN (FX99_none_L8 fN J) f (nI k) (nI t) _ _ (nI k) M = _ ∧ _
    by_cases q : ∃ j, j < k ∧ 3 ≤ K j
    · rw [fi_pos q] at G0 ⊢
      by_cases q2 : ∃ j, j < k ∧ K j = 4
      · rw [fi_pos q2] at G0 ⊢
        exact ⟨L, G0, l2, fun z => absurd q z⟩
      · rw [fi_neg q2] at G0 ⊢
        exact ⟨M, G0, rs_r o.1, fun _ => rfl⟩
    · have q2 : ¬ ∃ j, j < k ∧ K j = 4 := fun ⟨j, j1, j2⟩ => q ⟨j, j1, by omega⟩
      rw [fi_neg q] at G0 ⊢
      rw [fi_neg q2]
      exact ⟨M, G0, rs_r o.1, fun _ => rfl⟩
  | succ r ih =>
    intro k J hk hJ
    obtain ⟨J, rfl⟩ : ∃ x, J = x + 1 := ⟨J - 1, by omega⟩
    have cc : ¬ nI n ≤ nI k := fun q => by
      rw [iz_nI n] at q
      have := (ni_ge (k := k) (z := (n : Int)) (by omega)).mp q
      omega
    obtain ⟨k1, k2⟩ := hK k (by omega)
    obtain ⟨a1, a2⟩ := X99_isNone (K := K) (k := k) o (by omega) k1 k2
    have i0 : fm_in M (M.2.2 375 f 0) (nI k) = true := in_nI (tL_375 o.1.1 o.2.1) (by omega) (by decide)
    have h32 : ∀ a b, HX99_none_32 f (nI n) (nI t) a (nI k) b M := fun _ _ => ⟨fun _ => ⟨i0, trivial⟩, fun _ => trivial⟩
    have G0 := (gX99_none_8 (FX99_none_L8 fN J) f (nI n) (nI t) (bz (∃ j, j < k ∧ 3 ≤ K j)) (bz (∃ j, j < k ∧ K j = 4)) (nI k) M o.1 o.2.1 ⟨fun q => absurd q cc, fun _ => ⟨fun _ => ⟨a1, by
      dsimp only
      rw [a2]
      exact ⟨fun _ => h32 _ _, fun _ => h32 _ _⟩⟩, fun _ => h32 _ _⟩⟩).1
    have r32 : ∀ p : Prop, GX99_none_32 f (nI n) (nI t) (bz (∃ j, j < k ∧ K j = 4)) (nI k) (bz p) M = .inl (f, nI n, nI t, bz p, bz (∃ j, j < k + 1 ∧ K j = 4), nI (k + 1), M) := fun p => by
      unfold GX99_none_32 GX99_none_49 GX99_none_54
      dsimp only
      rw [fi_bz, o_cl (by omega), k1, up_1 (by omega), propext (ni_eq (k := K k) (z := 4) (by omega))]
      by_cases q : ∃ j, j < k ∧ K j = 4
      · rw [fi_pos q, bz_t (c := ∃ j, j < k + 1 ∧ K j = 4) (q.elim fun j h => ⟨j, by omega, h.2⟩)]
      · rw [fi_neg q]
        by_cases q2 : ((K k : Nat) : Int) = 4
        · rw [fi_pos q2, bz_t (c := ∃ j, j < k + 1 ∧ K j = 4) ⟨k, by omega, by omega⟩]
        · rw [fi_neg q2, bz_f (c := ∃ j, j < k + 1 ∧ K j = 4) (fun ⟨j, j1, j2⟩ => by
            by_cases w : j = k
            · rw [w] at j2
              omega
            · exact q ⟨j, by omega, j2⟩)]
    have r0 := r32 False
    have r1 := r32 True
    rw [← bz0] at r0
    rw [← bz1] at r1
    unfold GX99_none_8 GX99_none_27 at G0
    dsimp only at G0
    rw [fi_neg cc, fi_bz, a2] at G0
    dsimp only at G0
    rw [fi_bz, r0, r1] at G0
    have e3 : fi (∃ j, j < k ∧ 3 ≤ K j) (Sum.inl (f, nI n, nI t, Int32.ofInt 1, bz (∃ j, j < k + 1 ∧ K j = 4), nI (k + 1), M) : (Nat × Int32 × Int32 × Int32 × Int32 × Int32 × FM) ⊕ (Int64 × FM)) (fi (3 ≤ K k) (Sum.inl (f, nI n, nI t, Int32.ofInt 1, bz (∃ j, j < k + 1 ∧ K j = 4), nI (k + 1), M)) (Sum.inl (f, nI n, nI t, Int32.ofInt 0, bz (∃ j, j < k + 1 ∧ K j = 4), nI (k + 1), M))) = Sum.inl (f, nI n, nI t, bz (∃ j, j < k + 1 ∧ 3 ≤ K j), bz (∃ j, j < k + 1 ∧ K j = 4), nI (k + 1), M) := by
      by_cases q : ∃ j, j < k ∧ 3 ≤ K j
      · rw [fi_pos q, bz_t (c := ∃ j, j < k + 1 ∧ 3 ≤ K j) (q.elim fun j h => ⟨j, by omega, h.2⟩)]
      · rw [fi_neg q]
        by_cases q2 : 3 ≤ K k
        · rw [fi_pos q2, bz_t (c := ∃ j, j < k + 1 ∧ 3 ≤ K j) ⟨k, by omega, q2⟩]
        · rw [fi_neg q2, bz_f (c := ∃ j, j < k + 1 ∧ 3 ≤ K j) (fun ⟨j, j1, j2⟩ => by
            by_cases w : j = k
            · rw [w] at j2
              exact q2 j2
            · exact q ⟨j, by omega, j2⟩)]
    rw [e3] at G0
    obtain ⟨L, l1, l2, l3⟩ := ih (k + 1) J (by omega) (by omega)
    exact ⟨L, G0.trans l1, l2, l3⟩
theorem X99_none (o : FlO f M) (ht : t ≤ 1) (hn : n ≤ 3) (K : Nat → Nat) (hK : ∀ k, k < n → M.1 3 (M.2.2 375 f 0) k = nI (K k) ∧ K k ≤ 4) :
    ∃ X, (HX99_none f (nI n) (nI t) M ∧ GX99_none f (nI n) (nI t) M = (fi (∃ j, j < n ∧ 3 ≤ K j) (lN (qN t)) (Int64.ofInt (-1)), X)) ∧ Rs f (fi (∃ j, j < n ∧ K j = 4) 16 0) M X ∧ (¬ (∃ j, j < n ∧ 3 ≤ K j) → X = M) := by
  obtain ⟨L, l1, l2, l3⟩ := X99_none_L o ht hn K hK n 0 fN (by omega) (Nat.lt_of_le_of_lt hn (by decide))
  have z1 : bz (∃ j, j < 0 ∧ 3 ≤ K j) = Int32.ofInt 0 := bz_f (fun ⟨j, h, _⟩ => by omega)
  have z2 : bz (∃ j, j < 0 ∧ K j = 4) = Int32.ofInt 0 := bz_f (fun ⟨j, h, _⟩ => by omega)
  rw [z1, z2] at l1
  have G0 := (gX99_none_0 (FX99_none_L8 fN fN) f (nI n) (nI t) M o.1).1
  exact ⟨L, op_of (o := FX99_none fN f (nI n) (nI t) M) (G0.trans l1) ⟨l2.1.1, frF_ext l2.1⟩, l2, l3⟩
/-- both numbers, or the bits of none -/
theorem X99_none2 (o : FlO f M) (ht : t ≤ 1) (v0 : SV f 0 M X) (v1 : SV f 1 M Y) (gX : gdU X) (gY : gdU Y) : HX99_none f (Int32.ofInt 2) (nI t) M ∧
    ((¬ (3 ≤ X.1 ∨ 3 ≤ Y.1) ∧ GX99_none f (Int32.ofInt 2) (nI t) M = (Int64.ofInt (-1), M)) ∨ ((3 ≤ X.1 ∨ 3 ≤ Y.1) ∧ ∃ L, GX99_none f (Int32.ofInt 2) (nI t) M = (lN (qN t), L) ∧ Rs f (if X.1 = 4 ∨ Y.1 = 4 then 16 else 0) M L)) := by
  have g1 := gX.1
  have g2 := gY.1
  obtain ⟨L, ⟨l1, l2⟩, l3, l4⟩ := X99_none (n := 2) (t := t) o ht (by decide) (fun k => if k = 0 then X.1 else Y.1) (fun k hk => by
    rcases (show k = 0 ∨ k = 1 by omega) with e | e <;> subst e
    · exact ⟨v0.1, g1⟩
    · exact ⟨v1.1, g2⟩)
  have e3 : (∃ j, j < 2 ∧ 3 ≤ (if j = 0 then X.1 else Y.1)) ↔ (3 ≤ X.1 ∨ 3 ≤ Y.1) := ⟨fun ⟨j, j1, j2⟩ => by split at j2 <;> omega, fun h => h.elim (fun h => ⟨0, by decide, h⟩) (fun h => ⟨1, by decide, h⟩)⟩
  have e4 : (∃ j, j < 2 ∧ (if j = 0 then X.1 else Y.1) = 4) ↔ (X.1 = 4 ∨ Y.1 = 4) := ⟨fun ⟨j, j1, j2⟩ => by split at j2 <;> omega, fun h => h.elim (fun h => ⟨0, by decide, h⟩) (fun h => ⟨1, by decide, h⟩)⟩
  rw [propext e3] at l2 l4
  rw [propext e4, fi_if] at l3
  refine ⟨l1, ?_⟩
  by_cases q : 3 ≤ X.1 ∨ 3 ≤ Y.1
  · rw [fi_pos q] at l2
    exact Or.inr ⟨q, L, l2, l3⟩
  · rw [fi_neg q, l4 q] at l2
    exact Or.inl ⟨q, l2⟩
theorem X99_none1 (o : FlO f M) (ht : t ≤ 1) (v0 : SV f 0 M X) (gX : gdU X) : HX99_none f (Int32.ofInt 1) (nI t) M ∧
    ((¬ 3 ≤ X.1 ∧ GX99_none f (Int32.ofInt 1) (nI t) M = (Int64.ofInt (-1), M)) ∨ (3 ≤ X.1 ∧ ∃ L, GX99_none f (Int32.ofInt 1) (nI t) M = (lN (qN t), L) ∧ Rs f (if X.1 = 4 then 16 else 0) M L)) := by
  have g1 := gX.1
  obtain ⟨L, ⟨l1, l2⟩, l3, l4⟩ := X99_none (n := 1) (t := t) o ht (by decide) (fun k => X.1) (fun k hk => by
    rcases (show k = 0 by omega) with e
    subst e
    exact ⟨v0.1, g1⟩)
  have e3 : (∃ j : Nat, j < 1 ∧ 3 ≤ X.1) ↔ (3 ≤ X.1) := ⟨fun ⟨j, j1, j2⟩ => j2, fun h => ⟨0, by decide, h⟩⟩
  have e4 : (∃ j : Nat, j < 1 ∧ X.1 = 4) ↔ (X.1 = 4) := ⟨fun ⟨j, j1, j2⟩ => j2, fun h => ⟨0, by decide, h⟩⟩
  rw [propext e3] at l2 l4
  rw [propext e4, fi_if] at l3
  refine ⟨l1, ?_⟩
  by_cases q : 3 ≤ X.1
  · rw [fi_pos q] at l2
    exact Or.inr ⟨q, L, l2, l3⟩
  · rw [fi_neg q, l4 q] at l2
    exact Or.inl ⟨q, l2⟩
theorem X99_inf (o : FlO f M) (ht : t ≤ 1) (sg : Bool) : GX99_pack (bz (sg = true)) ((M.1 3 (M.2.2 374 f 0) (nI t).toNatClampNeg).toInt64) (Int64.ofInt 0) (nI t) M = (lN (pk t sg (2 * fG t + 1) 0), M) := by
  obtain ⟨p, -⟩ := p2F ht
  rw [o_cl (by omega), fl_gr o ht, iz_64 (by omega), show Int64.ofInt 0 = lN 0 from rfl, X99_pack ht (by rcases p with b | b <;> rw [b.2.1, b.2.2.2.1, b.2.2.1] <;> decide) (Or.inl (Nat.two_pow_pos _))]
  rfl
/-- one at least is infinite -/
theorem X99_infiniteSum (o : FlO f M) (ht : t ≤ 1) (a b : Prop) (s z : Bool) (hab : a ∨ b) : ∃ L, (HX99_infiniteSum f (bz a) (bz (s = true)) (bz b) (bz (z = true)) (nI t) M ∧
    GX99_infiniteSum f (bz a) (bz (s = true)) (bz b) (bz (z = true)) (nI t) M = (fi (a ∧ b ∧ s ≠ z) (lN (qN t)) (lN (pk t (fi a s z) (2 * fG t + 1) 0)), L)) ∧ Rs f (fi (a ∧ b ∧ s ≠ z) 16 0) M L := by
  have i0 : fm_in M (M.2.2 374 f 0) (nI t) = true := in_nI (tL_374 o.1.1 o.2.1) (by omega) (by decide)
  have h21 : HX99_infiniteSum_21 f (bz a) (bz (s = true)) (bz (z = true)) (nI t) M := ⟨fun _ => ⟨i0, trivial⟩, fun _ => ⟨i0, trivial⟩⟩
  have H : HX99_infiniteSum f (bz a) (bz (s = true)) (bz b) (bz (z = true)) (nI t) M := ⟨fun _ => h21, fun _ => ⟨fun _ => h21, fun _ => ⟨fun _ => h21, fun _ => trivial⟩⟩⟩
  obtain ⟨L, l1, l2⟩ := X99_invalid (t := t) o ht
  have g21 : GX99_infiniteSum_21 f (bz a) (bz (s = true)) (bz (z = true)) (nI t) M = (lN (pk t (fi a s z) (2 * fG t + 1) 0), M) := by
    unfold GX99_infiniteSum_21 GX99_infiniteSum_31
    dsimp only
    rw [fi_bz, X99_inf o ht, X99_inf o ht]
    by_cases q : a
    · rw [fi_pos q, fi_pos q]
    · rw [fi_neg q, fi_neg q]
  unfold GX99_infiniteSum GX99_infiniteSum_0
  dsimp only
  rw [g21, l1, fi_bz, fi_bz, propext bz_ii]
  by_cases qa : a
  · rw [fi_pos qa]
    by_cases qb : b
    · rw [fi_pos qb]
      by_cases q : s = z
      · have nn : ¬ (a ∧ b ∧ s ≠ z) := fun w => w.2.2 q
        rw [fi_pos q, fi_neg nn, fi_neg nn]
        exact ⟨M, ⟨H, rfl⟩, rs_r o.1⟩
      · rw [fi_neg q, fi_pos ⟨qa, qb, q⟩, fi_pos ⟨qa, qb, q⟩]
        exact ⟨L, ⟨H, rfl⟩, l2⟩
    · have nn : ¬ (a ∧ b ∧ s ≠ z) := fun w => qb w.2.1
      rw [fi_neg qb, fi_neg nn, fi_neg nn]
      exact ⟨M, ⟨H, rfl⟩, rs_r o.1⟩
  · have nn : ¬ (a ∧ b ∧ s ≠ z) := fun w => qa w.1
    rw [fi_neg qa, fi_neg nn, fi_neg nn]
    exact ⟨M, ⟨H, rfl⟩, rs_r o.1⟩
end Nn
