/-! floats: the component's quotients -/
set_option maxRecDepth 100000
theorem dv_g {a B k : Nat} {s : Bool} (B0 : 0 < B) (qh : 2 ^ 59 ≤ a / B) (hs : s = true ↔ a * 2 ^ (k + 1) % B ≠ 0) :
    2 * (a / B) + (if a % B ≠ 0 then 1 else 0) = jm (a * 2 ^ (k + 1) / B) k s ∧ 59 + (k + 1) < bln (a * 2 ^ (k + 1) / B) := by
  have pk := Nat.two_pow_pos (k + 1)
  have eq1 : a * 2 ^ (k + 1) / B / 2 ^ (k + 1) = a / B := by
    rw [Nat.div_div_eq_div_mul, Nat.mul_div_mul_right _ _ pk]
  have em : a * 2 ^ (k + 1) / B % 2 ^ (k + 1) = 0 ∧ a * 2 ^ (k + 1) % B = 0 ↔ a % B = 0 := by
    constructor
    · rintro ⟨y1, y2⟩
      have e1 := Nat.div_add_mod (a * 2 ^ (k + 1)) B
      have e2 := Nat.div_add_mod (a * 2 ^ (k + 1) / B) (2 ^ (k + 1))
      rw [y1, eq1, Nat.add_zero] at e2
      rw [y2, Nat.add_zero, ← e2, Nat.mul_left_comm, Nat.mul_comm a] at e1
      have e3 := Nat.eq_of_mul_eq_mul_left pk e1
      have e4 := Nat.div_add_mod a B
      omega
    · intro y
      have e4 := Nat.div_add_mod a B
      rw [y, Nat.add_zero] at e4
      have e5 : a * 2 ^ (k + 1) = B * (a / B * 2 ^ (k + 1)) := by rw [← Nat.mul_assoc, e4]
      rw [e5, Nat.mul_div_cancel_left _ B0, Nat.mul_mod_left, Nat.mul_mod_right]
      exact ⟨rfl, rfl⟩
  generalize a * 2 ^ (k + 1) / B = Q at *
  generalize a * 2 ^ (k + 1) % B = R at *
  have e1 : Q / 2 ^ k / 2 = a / B := by rw [Nat.div_div_eq_div_mul, ← Nat.pow_succ, eq1]
  have e2 : Q % 2 ^ (k + 1) = 0 ↔ Q / 2 ^ k % 2 = 0 ∧ Q % 2 ^ k = 0 := by
    have := Nat.mod_pow_succ (b := 2) (k := k) (x := Q)
    rw [this]
    have pk0 := Nat.two_pow_pos k
    constructor
    · intro y
      have y1 : Q % 2 ^ k = 0 := by omega
      have y2 : 2 ^ k * (Q / 2 ^ k % 2) = 0 := by omega
      exact ⟨(Nat.mul_eq_zero.mp y2).elim (fun z => by omega) id, y1⟩
    · rintro ⟨y1, y2⟩
      rw [y1, y2]
      rfl
  constructor
  · unfold jm
    rw [e1]
    by_cases y : Q % 2 ^ k ≠ 0 ∨ s = true
    · rw [if_pos y, if_pos]
      intro z
      obtain ⟨z1, z2⟩ := em.mpr z
      rcases y with y | y
      · exact y (e2.mp z1).2
      · exact hs.mp y z2
    · rw [if_neg y]
      have y1 : Q % 2 ^ k = 0 := Classical.byContradiction (fun z => y (Or.inl z))
      have y2 : R = 0 := Classical.byContradiction (fun z => y (Or.inr (hs.mpr z)))
      have y3 := Nat.div_add_mod (Q / 2 ^ k) 2
      by_cases w : a % B = 0
      · rw [if_neg (fun z => z w)]
        have := (e2.mp (em.mpr w).1).1
        omega
      · rw [if_pos w]
        have : Q / 2 ^ k % 2 ≠ 0 := fun z => w (em.mp ⟨e2.mpr ⟨z, y1⟩, y2⟩)
        omega
  · refine bln_gt ?_
    rw [Nat.pow_add]
    have e1 := Nat.div_add_mod Q (2 ^ (k + 1))
    rw [eq1] at e1
    have e2 := Nat.mul_le_mul_left (2 ^ (k + 1)) qh
    rw [Nat.mul_comm (2 ^ 59)]
    omega
theorem dv_f {t md : Nat} {sg : Bool} (ht : t ≤ 1) {X Y na nb : Nat} {p q : Int} (hX : X ≠ 0) (hY : Y ≠ 0) (ha : bln X + na = 62) (hb : bln Y + nb = 62) (bX : bln X ≤ 54) (bY : bln Y ≤ 54) :
    rnd t md sg (2 * (X * 2 ^ na * 2 ^ 60 / (Y * 2 ^ nb)) + (if X * 2 ^ na * 2 ^ 60 % (Y * 2 ^ nb) ≠ 0 then 1 else 0)) (p - na - (q - nb) - 61) false = rnd t md sg (X * 2 ^ 120 / Y) (p - 120 - q) (decide (X * 2 ^ 120 % Y ≠ 0)) := by
  have pX := bln_pos hX
  have pY := bln_pos hY
  have gA : bln (X * 2 ^ na) = 62 := by rw [bln_mul hX]; exact ha
  have gB : bln (Y * 2 ^ nb) = 62 := by rw [bln_mul hY]; exact hb
  have A3 : 2 ^ 61 ≤ X * 2 ^ na := by
    have := bln_ge (N := X * 2 ^ na) (fun y => by rw [y] at gA; exact absurd gA (by decide))
    rw [gA] at this
    exact this
  have B2 : Y * 2 ^ nb < 2 ^ 62 := by rw [← gB]; exact bln_lt _
  have B0 : 0 < Y * 2 ^ nb := Nat.mul_pos (Nat.pos_of_ne_zero hY) (Nat.two_pow_pos _)
  obtain ⟨k, hk⟩ : ∃ k : Nat, 60 + na + (k + 1) = 120 + nb := ⟨60 + nb - na - 1, by omega⟩
  have eD : X * 2 ^ 120 * 2 ^ nb = X * 2 ^ na * 2 ^ 60 * 2 ^ (k + 1) := by
    rw [Nat.mul_assoc, Nat.mul_assoc, Nat.mul_assoc, ← Nat.pow_add, ← Nat.pow_add, ← Nat.pow_add]
    congr 2
    omega
  have pn := Nat.two_pow_pos nb
  have pk := Nat.two_pow_pos (k + 1)
  have eQ : X * 2 ^ 120 / Y = X * 2 ^ na * 2 ^ 60 * 2 ^ (k + 1) / (Y * 2 ^ nb) := by
    rw [← eD, Nat.mul_div_mul_right _ _ pn]
  have eR : X * 2 ^ 120 % Y * 2 ^ nb = X * 2 ^ na * 2 ^ 60 * 2 ^ (k + 1) % (Y * 2 ^ nb) := by
    rw [← eD, Nat.mul_mod_mul_right]
  have hR : (X * 2 ^ 120 % Y ≠ 0) ↔ (X * 2 ^ na * 2 ^ 60 * 2 ^ (k + 1) % (Y * 2 ^ nb) ≠ 0) := by
    rw [← eR]
    exact ⟨fun y z => (Nat.mul_eq_zero.mp z).elim y (fun w => by omega), fun y z => y (by rw [z, Nat.zero_mul])⟩
  have qh : 2 ^ 59 ≤ X * 2 ^ na * 2 ^ 60 / (Y * 2 ^ nb) := by
    rw [Nat.le_div_iff_mul_le B0]
    have e1 : (2 : Nat) ^ 59 * 2 ^ 62 = 2 ^ 61 * 2 ^ 60 := by decide
    calc 2 ^ 59 * (Y * 2 ^ nb) ≤ 2 ^ 59 * 2 ^ 62 := Nat.mul_le_mul_left _ (Nat.le_of_lt B2)
    _ = 2 ^ 61 * 2 ^ 60 := e1
    _ ≤ X * 2 ^ na * 2 ^ 60 := Nat.mul_le_mul_right _ A3
  obtain ⟨hJ, hb2⟩ := dv_g (k := k) (s := decide (X * 2 ^ 120 % Y ≠ 0)) B0 qh ⟨fun y => hR.mp (of_decide_eq_true y), fun y => decide_eq_true (hR.mpr y)⟩
  rw [← eQ] at hJ hb2
  rw [hJ, ← rnd_jm (k := k) (sc := p - 120 - q) (N := X * 2 ^ 120 / Y) (s := decide (X * 2 ^ 120 % Y ≠ 0))]
  · congr 1
    omega
  · have := p2F ht
    omega
section Lq
variable {u i j md : Nat} {c : Nat → Nat} {S : Nat → Prop} {M N : FM} {X Y : UU} {a0 a1 a2 : Nat}
theorem shl1' {n : Nat} (h : 2 * n < 18446744073709551616) : lN n <<< ((Int32.ofInt 1).toInt64 &&& 63) = lN (2 * n) := by
  have := shl_n (c := n) (n := 1) (by decide) (by omega)
  rw [show ((1 : Nat) : Int) = 1 from rfl, Nat.pow_one, Nat.mul_comm] at this
  exact this
theorem or1' {n : Nat} (h : 2 * n + 1 < 18446744073709551616) : lN (2 * n) ||| Int64.ofInt 1 = lN (2 * n + 1) := by
  refine ul_inj ?_
  rw [ul_or, show Int64.ofInt 1 = lN 1 from rfl, l_big (by omega), l_big (by omega), l_big (by omega)]
  have := or_up (Q := n) (r := 0)
  rw [Nat.pow_zero, Nat.mul_one, Nat.mul_one] at this
  exact this
theorem or0' (x : Int64) : x ||| Int64.ofInt 0 = x := by
  refine ul_inj ?_
  rw [ul_or, show Int64.ofInt 0 = lN 0 from rfl, l_big (by omega), Nat.or_zero]
theorem div_L (T : Ty M) (n2 : fm_is M 39 39 a2 = true) (n0 : fm_is M 39 39 a0 = true) (n1 : fm_is M 39 39 a1 = true) {A B : Nat} (hA : A < 2 * B) (hB : B < 2 ^ 62) : ∀ (r k J : Nat), k + r = 61 → r < J →
    FX68_divide_L35 fN J a0 a1 a2 (lN B) (lN (A * 2 ^ k % (2 * B))) (lN (A * 2 ^ k / (2 * B))) (nI k) M =
      some (fm_sI (wSF (M.2.2 117 a2 0) (2 * (A * 2 ^ 61 / (2 * B)) + (if A * 2 ^ 61 % (2 * B) ≠ 0 then 1 else 0)) M) 116 a2 0 ((M.1 116 a0 0 - M.1 116 a1 0) - Int32.ofInt 61)) := by
  have p62 : (2 : Nat) ^ 62 = 4611686018427387904 := by decide
  have p61 : (2 : Nat) ^ 61 = 2305843009213693952 := by decide
  have B0 : 0 < 2 * B := by omega
  have hq : ∀ k, k ≤ 61 → A * 2 ^ k / (2 * B) < 2305843009213693952 := fun k hk => by
    have : A * 2 ^ k / (2 * B) < 2 ^ k := Nat.div_lt_of_lt_mul (Nat.mul_lt_mul_of_pos_right hA (Nat.two_pow_pos k))
    have e : 2 ^ k ≤ 2 ^ 61 := Nat.pow_le_pow_right (by decide) hk
    omega
  have hr : ∀ k, A * 2 ^ k % (2 * B) < 2 * B := fun k => Nat.mod_lt _ B0
  intro r
  induction r with
  | zero =>
    intro k J hk hJ
    obtain ⟨J, rfl⟩ : ∃ x, J = x + 1 := ⟨J - 1, by omega⟩
    obtain rfl : k = 61 := by omega
    show FX68_divide_35 fN (FX68_divide_L35 fN J) a0 a1 a2 _ _ _ (nI 61) M = _
    have G0 := (gX68_divide_35 (FX68_divide_L35 fN J) a0 a1 a2 (lN B) (lN (A * 2 ^ 61 % (2 * B))) (lN (A * 2 ^ 61 / (2 * B))) (nI 61) M T n2 n0 n1).1
    unfold GX68_divide_35 GX68_divide_99 at G0
    dsimp only at G0
    have h1 := hq 61 (by decide)
    have h2 := hr 61
    have kk : ∀ X, kX68_divide (FX68_divide_L35 fN J) (.inr X) = some X := fun _ => rfl
    have ew : ∀ V g b i, (wSF (M.2.2 117 a2 0) V M).1 g b i = M.1 g b i := fun _ _ _ _ => rfl
    generalize A * 2 ^ 61 / (2 * B) = q at *
    generalize A * 2 ^ 61 % (2 * B) = s at *
    rw [fi_pos (show Int32.ofInt 61 ≤ nI 61 by decide), propext (l0 (lN s)), l_big (by omega), shl1' (by omega), or1' (by omega), or0', X62_set, X62_set, l_big (by omega), l_big (by omega)] at G0
    by_cases w : s = 0
    · rw [fi_pos w, kk, ew, ew] at G0
      rw [if_neg (fun z => z w), Nat.add_zero]
      exact G0
    · rw [fi_neg w, kk, ew, ew] at G0
      rw [if_pos w]
      exact G0
  | succ r ih =>
    intro k J hk hJ
    obtain ⟨J, rfl⟩ : ∃ x, J = x + 1 := ⟨J - 1, by omega⟩
    show FX68_divide_35 fN (FX68_divide_L35 fN J) a0 a1 a2 _ _ _ (nI k) M = _
    have G0 := (gX68_divide_35 (FX68_divide_L35 fN J) a0 a1 a2 (lN B) (lN (A * 2 ^ k % (2 * B))) (lN (A * 2 ^ k / (2 * B))) (nI k) M T n2 n0 n1).1
    unfold GX68_divide_35 GX68_divide_67 at G0
    dsimp only at G0
    have h1 := hq k (by omega)
    have h2 := hr k
    have I := ih (k + 1) J (by omega) (by omega)
    have e0 : A * 2 ^ (k + 1) = 2 * (A * 2 ^ k) := by rw [Nat.pow_succ, ← Nat.mul_assoc, Nat.mul_comm]
    have e1 := Nat.div_add_mod (A * 2 ^ k) (2 * B)
    rw [e0] at I
    generalize A * 2 ^ k / (2 * B) = q at *
    generalize A * 2 ^ k % (2 * B) = s at *
    generalize A * 2 ^ k = a at *
    rw [fi_neg (show ¬ Int32.ofInt 61 ≤ nI k from fun z => by have := (ni_ge (z := 61) (k := k) (by omega)).mp z; omega), shl1' (n := q) (by omega), or1' (by omega), up_1 (by omega), b_lt (by omega) (by omega)] at G0
    rw [G0]
    have dm : ∀ Q R, 2 * a = 2 * B * Q + R → R < 2 * B → 2 * a / (2 * B) = Q ∧ 2 * a % (2 * B) = R := fun Q R y1 y2 => by
      constructor
      · rw [y1, Nat.mul_add_div B0, Nat.div_eq_of_lt y2, Nat.add_zero]
      · rw [y1, Nat.mul_add_mod, Nat.mod_eq_of_lt y2]
    by_cases w : s < B
    · obtain ⟨d1, d2⟩ := dm (2 * q) (2 * s) (by rw [← e1, Nat.mul_add, Nat.mul_left_comm]) (by omega)
      rw [fi_pos w, shl1' (by omega)]
      rw [d1, d2] at I
      exact I
    · obtain ⟨d1, d2⟩ := dm (2 * q + 1) (2 * (s - B)) (by rw [← e1, Nat.mul_add, Nat.mul_left_comm, Nat.mul_add (2 * B) (2 * q) 1]; omega) (by omega)
      rw [fi_neg w, l_s (by omega) (by omega), shl1' (by omega)]
      rw [d1, d2] at I
      exact I
theorem X68_divide (o : FlC u c M) (hi : i < 3) (hj : j < 3) (hij : i ≠ j) (hS : S 3) (hSi : S i) (hSj : S j) (va : Tk c i M X) (vb : Tk c j M Y) (hX : X.1 = 1) (hY : Y.1 = 1) (gX : gdU X) (gY : gdU Y) :
    ∃ N, (HX68_divide (c i) (c j) (c 3) M ∧ GX68_divide (c i) (c j) (c 3) M = N) ∧ Cf c S 0 M N ∧
      TkN c 3 N (X.2.2.2 - ((62 - bln X.2.2.1 : Nat) : Int) - (Y.2.2.2 - ((62 - bln Y.2.2.1 : Nat) : Int)) - 61)
        (2 * (X.2.2.1 * 2 ^ (62 - bln X.2.2.1) * 2 ^ 60 / (Y.2.2.1 * 2 ^ (62 - bln Y.2.2.1))) + (if X.2.2.1 * 2 ^ (62 - bln X.2.2.1) * 2 ^ 60 % (Y.2.2.1 * 2 ^ (62 - bln Y.2.2.1)) ≠ 0 then 1 else 0)) := by
  obtain ⟨kx, s, A, p⟩ := X
  obtain ⟨ky, z, B, q⟩ := Y
  replace hX : kx = 1 := hX
  replace hY : ky = 1 := hY
  subst hX
  subst hY
  obtain ⟨-, sA, pA, zA⟩ := gX
  obtain ⟨-, sB, pB, zB⟩ := gY
  dsimp only at sA pA zA sB pB zB va vb ⊢
  have x0 : A ≠ 0 := fun y => absurd ((zA (by decide)).mp y) (by decide)
  have y0 : B ≠ 0 := fun y => absurd ((zB (by decide)).mp y) (by decide)
  have bA : bln A ≤ 54 := bln_le sA
  have bB : bln B ≤ 54 := bln_le sB
  have p54 : (2 : Nat) ^ 54 < w128 := by rw [w128_p]; decide
  obtain ⟨h1, a1, a2, a3, -⟩ := X71_lift (p := 61) (e := p) (V := A) o (show i < 4 by omega) hSi (va.2 rfl) (by omega) (by omega) (by omega)
  have o1 := cf_o o a1
  have l1 := X71_lift (S := fun k => k = i) (p := 61) o (show i < 4 by omega) rfl (show TkN c i M p A from va.2 rfl) (by omega) (by omega) (by omega)
  have vb1 := tk_k o l1.2.1 (show j < 4 by omega) (fun y => hij y.symm) vb
  rw [show ((61 : Nat) : Int) = 61 from rfl] at h1 a1 a2 a3 o1 vb1
  have va1 : Tk c i (GX71_lift (c i) (Int32.ofInt 61) M) (1, s, A * 2 ^ (62 - bln A), p - ((62 - bln A : Nat) : Int)) := ⟨a3 _ _ va.1, fun _ => a2⟩
  clear l1
  have G0 := fun (k35 : Nat → Nat → Nat → Int64 → Int64 → Int64 → Int32 → FM → Option (FM)) (h : HX68_divide_0 (c i) (c j) (c 3) M) => (gX68_divide_0 k35 (c i) (c j) (c 3) M o.1 ((o.2.2.2.1 i (by omega)).2.2.1) ((o.2.2.2.1 j (by omega)).2.2.1) h).1
  have hH : HX68_divide_0 (c i) (c j) (c 3) M = (HX71_lift (c i) (Int32.ofInt 61) M ∧ HX71_lift (c j) (Int32.ofInt 61) (GX71_lift (c i) (Int32.ofInt 61) M) ∧ True) := rfl
  rw [hH] at G0
  unfold GX68_divide_0 at G0
  dsimp only at G0
  have eH : ∀ N, (HX68_divide (c i) (c j) (c 3) M ∧ GX68_divide (c i) (c j) (c 3) M = N) = ((∃ r, FX68_divide fN (c i) (c j) (c 3) M = some r ∧ OkV M r) ∧ (FX68_divide fN (c i) (c j) (c 3) M).getD M = N) := fun N => rfl
  generalize GX71_lift (c i) (Int32.ofInt 61) M = M1 at *
  obtain ⟨h2, b1, b2, b3, -⟩ := X71_lift (p := 61) (e := q) (V := B) o1 (show j < 4 by omega) hSj (vb1.2 rfl) (by omega) (by omega) (by omega)
  have o2 := cf_o o1 b1
  have l2 := X71_lift (S := fun k => k = j) (p := 61) o1 (show j < 4 by omega) rfl (show TkN c j _ q B from vb1.2 rfl) (by omega) (by omega) (by omega)
  have va2 := tk_k o1 l2.2.1 (show i < 4 by omega) hij va1
  rw [show ((61 : Nat) : Int) = 61 from rfl] at h2 b1 b2 b3 o2 va2
  have vb2 : Tk c j (GX71_lift (c j) (Int32.ofInt 61) M1) (1, z, B * 2 ^ (62 - bln B), q - ((62 - bln B : Nat) : Int)) := ⟨b3 _ _ vb1.1, fun _ => b2⟩
  clear l2
  generalize GX71_lift (c j) (Int32.ofInt 61) M1 = M2 at *
  have gA : bln (A * 2 ^ (62 - bln A)) = 62 := by rw [bln_mul x0]; omega
  have gB : bln (B * 2 ^ (62 - bln B)) = 62 := by rw [bln_mul y0]; omega
  have p62 : (2 : Nat) ^ 62 = 4611686018427387904 := by decide
  have p61 : (2 : Nat) ^ 61 = 2305843009213693952 := by decide
  have A2 : A * 2 ^ (62 - bln A) < 2 ^ 62 := by
    have := bln_lt (A * 2 ^ (62 - bln A))
    rw [gA] at this
    exact this
  have B2 : B * 2 ^ (62 - bln B) < 2 ^ 62 := by
    have := bln_lt (B * 2 ^ (62 - bln B))
    rw [gB] at this
    exact this
  have B3 : 2 ^ 61 ≤ B * 2 ^ (62 - bln B) := by
    have := bln_ge (N := B * 2 ^ (62 - bln B)) (fun y => by rw [y] at gB; exact absurd gB (by decide))
    rw [gB] at this
    exact this
  generalize A * 2 ^ (62 - bln A) = A' at *
  generalize B * 2 ^ (62 - bln B) = B' at *
  obtain ⟨-, li, ni, -⟩ := o2.2.2.2.1 i (by omega)
  obtain ⟨-, lj, nj, -⟩ := o2.2.2.2.1 j (by omega)
  obtain ⟨-, l3, n3, -⟩ := o2.2.2.2.1 3 (by decide)
  have L := div_L o2.1 n3 ni nj (A := A') (B := B') (by omega) B2 61 0 fN (by decide) (by decide)
  have g := G0 (FX68_divide_L35 fN fN) ⟨h1, h2, trivial⟩
  rw [li, lj, wv_l, wv_l, (va2.2 rfl).2, (vb2.2 rfl).2, Nat.mod_eq_of_lt (show A' < 18446744073709551616 by omega), Nat.mod_eq_of_lt (show B' < 18446744073709551616 by omega)] at g
  rw [Nat.pow_zero, Nat.mul_one, Nat.mod_eq_of_lt (show A' < 2 * B' by omega), Nat.div_eq_of_lt (show A' < 2 * B' by omega)] at L
  rw [l3, (va2.2 rfl).1, (vb2.2 rfl).1, iz_s, iz_s] at L
  have e61 : A' * 2 ^ 61 / (2 * B') = A' * 2 ^ 60 / B' ∧ (A' * 2 ^ 61 % (2 * B') ≠ 0 ↔ A' * 2 ^ 60 % B' ≠ 0) := by
    have e : A' * 2 ^ 61 = 2 * (A' * 2 ^ 60) := by omega
    rw [e, Nat.mul_div_mul_left _ _ (by decide), Nat.mul_mod_mul_left]
    exact ⟨rfl, by omega⟩
  rw [e61.1, ite_c e61.2] at L
  have c1 := cf_W (S := S) o2 (show 3 < 4 by decide) (2 * (A' * 2 ^ 60 / B') + (if A' * 2 ^ 60 % B' ≠ 0 then 1 else 0)) hS
  have c2 := cf_I6 (S := S) (cf_o o2 c1) (show 3 < 4 by decide) (Int32.ofInt (p - ((62 - bln A : Nat) : Int) - (q - ((62 - bln B : Nat) : Int)) - 61)) hS
  have cc := cf_0t a1 (cf_0t b1 (cf_0t c1 c2))
  have hV : 2 * (A' * 2 ^ 60 / B') + (if A' * 2 ^ 60 % B' ≠ 0 then 1 else 0) < w128 := by
    have : A' * 2 ^ 60 / B' ≤ A' * 2 ^ 60 := Nat.div_le_self _ _
    rw [w128_e]
    split <;> omega
  refine ⟨_, ?_, cc, sI_at _ _ _ _ _, wv_wS hV⟩
  rw [eH]
  exact op_of (g.trans L) ⟨cc.1.1, frC_ext cc.1⟩
end Lq
