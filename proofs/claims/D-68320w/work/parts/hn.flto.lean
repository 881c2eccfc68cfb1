/-! floats: the component's sums, whole -/
set_option maxRecDepth 100000
theorem smN_c (md : Nat) (s z : Bool) (A B : Nat) (m : Int) : smN md s z A B m = smN md z s B A m := by
  unfold smN
  by_cases q : s = z
  · rw [if_pos q, if_pos q.symm, Nat.add_comm, q]
  · rw [if_neg q, if_neg (show ¬ z = s from fun y => q y.symm)]
    by_cases q1 : A = B
    · rw [if_pos q1, if_pos (show B = A from q1.symm)]
    · rw [if_neg q1, if_neg (show ¬ B = A from fun y => q1 y.symm)]
      by_cases q2 : A < B
      · rw [if_pos q2, if_neg (by omega)]
      · rw [if_neg q2, if_pos (by omega)]
theorem pw2 {X a b k : Nat} (h : a + b = k) : X * 2 ^ a * 2 ^ b = X * 2 ^ k := by rw [Nat.mul_assoc, ← Nat.pow_add, h]
def exR (x : UU) : Rt := (x.1, x.2.1, x.2.2.1, x.2.2.2, false)
theorem lay_R {t md : Nat} (ht : t ≤ 1) {A B : Nat} {p q m ea eb : Int} (s z : Bool) {na nb : Nat} (hA : bln A + na = 126 ∧ A ≠ 0 ∧ bln A ≤ 110) (hB : bln B + nb = 126 ∧ B ≠ 0 ∧ bln B ≤ 110)
    (hea : ea = p - na) (heb : eb = q - nb) (hm : m = if p ≤ q then p else q) (hle : eb ≤ ea) (hlt : eb = ea → B * 2 ^ nb ≤ A * 2 ^ na) :
    finF t md (exR (if s = z then (1, s, A * 2 ^ na + jm (B * 2 ^ nb) (ea - eb).toNat false, ea) else if jm (B * 2 ^ nb) (ea - eb).toNat false = A * 2 ^ na then (0, decide (md = 2), 0, ea) else (1, s, A * 2 ^ na - jm (B * 2 ^ nb) (ea - eb).toNat false, ea))) =
    finF t md (smN md s z (A * 2 ^ (p - m).toNat) (B * 2 ^ (q - m).toNat) m) := by
  have hm2 : m ≤ p ∧ m ≤ q := by
    rw [hm]
    split <;> omega
  have w1 : (if eb ≤ m then eb else m) ≤ eb ∧ (if eb ≤ m then eb else m) ≤ m := by split <;> omega
  generalize (if eb ≤ m then eb else m) = w at w1
  have eA := pw2 (X := A) (a := (p - m).toNat) (b := (m - w).toNat) (k := (p - w).toNat) (by omega)
  have eB := pw2 (X := B) (a := (q - m).toNat) (b := (m - w).toNat) (k := (q - w).toNat) (by omega)
  have fB := pw2 (X := B) (a := nb) (b := (eb - w).toNat) (k := (q - w).toNat) (by omega)
  have fA : A * 2 ^ na * 2 ^ (ea - eb).toNat * 2 ^ (eb - w).toNat = A * 2 ^ (p - w).toNat := by
    rw [pw2 (X := A) (k := na + (ea - eb).toNat) rfl]
    exact pw2 (by omega)
  have gA : bln (A * 2 ^ na) = 126 := by rw [bln_mul hA.2.1]; exact hA.1
  have gB : bln (B * 2 ^ nb) = 126 := by rw [bln_mul hB.2.1]; exact hB.1
  have evA : A * 2 ^ na % 2 = 0 := by
    rw [show na = (na - 1) + 1 by omega, Nat.pow_succ, ← Nat.mul_assoc]
    exact Nat.mul_mod_left _ _
  have evB : B * 2 ^ nb % 2 = 0 := by
    rw [show nb = (nb - 1) + 1 by omega, Nat.pow_succ, ← Nat.mul_assoc]
    exact Nat.mul_mod_left _ _
  generalize A * 2 ^ na = G at *
  generalize B * 2 ^ nb = L at *
  generalize A * 2 ^ (p - m).toNat = a2 at *
  generalize B * 2 ^ (q - m).toNat = b2 at *
  rw [← eA] at fA
  rw [← eB] at fB
  have hd : ea = eb + ((ea - eb).toNat : Int) := by omega
  generalize (ea - eb).toNat = d at *
  have pe := Nat.two_pow_pos (eb - w).toNat
  have pm := Nat.two_pow_pos (m - w).toNat
  have L2 : L < 2 ^ 126 := by rw [← gB]; exact bln_lt L
  have G3 : 2 ^ 125 ≤ G := by
    have := bln_ge (N := G) (fun y => by rw [y] at gA; exact absurd gA (by decide))
    rw [gA] at this
    exact this
  have p126 : (2 : Nat) ^ 126 = 85070591730234615865843651857942052864 := by decide
  have p125 : (2 : Nat) ^ 125 = 42535295865117307932921825928971026432 := by decide
  have hGL : L ≤ G * 2 ^ d ∧ (jm L d false = G ↔ L = G * 2 ^ d) := by
    by_cases q0 : d = 0
    · subst q0
      rw [jm_0, Nat.pow_zero, Nat.mul_one]
      exact ⟨hlt (by omega), Iff.rfl⟩
    · have a : G * 2 ^ 1 ≤ G * 2 ^ d := Nat.mul_le_mul_left G (Nat.pow_le_pow_right (by decide) (by omega))
      have := jm_lt L2 (show 1 ≤ d by omega)
      exact ⟨by omega, fun y => by omega, fun y => by omega⟩
  by_cases q1 : s = z
  · unfold smN
    rw [if_pos q1, if_pos q1, fin_1]
    show finF t md (1, s, G + jm L d false, ea, false) = _
    have gp : 0 < G * 2 ^ d := Nat.mul_pos (by omega) (Nat.two_pow_pos d)
    rw [fin_1, hd, lay_a ht evA G3]
    refine rnd_w w1.1 w1.2 ?_ (by omega)
    rw [Nat.add_mul, Nat.add_mul, fA, fB]
  · rw [if_neg q1]
    unfold smN
    rw [if_neg q1]
    by_cases q2 : L = G * 2 ^ d
    · have e2 : a2 = b2 := by
        rw [← q2, fB] at fA
        exact (Nat.eq_of_mul_eq_mul_right pm fA).symm
      rw [if_pos (hGL.2.mpr q2), if_pos e2]
      show finF t md (0, decide (md = 2), 0, ea, false) = _
      rw [fin_0, fin_0]
    · have hlt2 : L < G * 2 ^ d := by omega
      have l2 : b2 < a2 := by
        have := Nat.mul_lt_mul_of_pos_right hlt2 pe
        rw [fA, fB] at this
        exact Nat.lt_of_mul_lt_mul_right this
      rw [if_neg (fun y => q2 (hGL.2.mp y)), if_neg (by omega), if_neg (by omega), fin_1]
      show finF t md (1, s, G - jm L d false, ea, false) = _
      rw [fin_1, hd, lay_s ht evA evB G3 L2 hlt2]
      refine rnd_w w1.1 w1.2 ?_ (by omega)
      rw [Nat.sub_mul, Nat.sub_mul, fA, fB]
section Lc
variable {u i j md : Nat} {c : Nat → Nat} {S : Nat → Prop} {M N : FM} {X Y : UU}
theorem lay_ou {R : Rt} {x : UU} (v : Tk c 3 N x) (h4 : x.1 ≤ 1) (h1 : x.1 = 1 → x.2.2.1 ≠ 0 ∧ bln x.2.2.1 ≤ 127) (he : -9000 ≤ x.2.2.2 ∧ x.2.2.2 ≤ 9000) (hR : ∀ t, t ≤ 1 → finF t md (exR x) = finF t md R) : Ou c 3 md N R :=
  ⟨x, v, by omega, fun y => ⟨(h1 y).1, (h1 y).2, he.1, he.2⟩, hR⟩
theorem lay_b {s z : Bool} {G J : Nat} {e : Int} (hG : bln G = 126) (hJ : J < 2 ^ 126) (hJG : J ≤ G) :
    (if s = z then ((1, s, G + J, e) : UU) else if J = G then (0, decide (md = 2), 0, e) else (1, s, G - J, e)).1 ≤ 1 ∧
    ((if s = z then ((1, s, G + J, e) : UU) else if J = G then (0, decide (md = 2), 0, e) else (1, s, G - J, e)).1 = 1 →
      (if s = z then ((1, s, G + J, e) : UU) else if J = G then (0, decide (md = 2), 0, e) else (1, s, G - J, e)).2.2.1 ≠ 0 ∧ bln (if s = z then ((1, s, G + J, e) : UU) else if J = G then (0, decide (md = 2), 0, e) else (1, s, G - J, e)).2.2.1 ≤ 127) ∧
    (if s = z then ((1, s, G + J, e) : UU) else if J = G then (0, decide (md = 2), 0, e) else (1, s, G - J, e)).2.2.2 = e := by
  have G2 : G < 2 ^ 126 := by rw [← hG]; exact bln_lt G
  have G3 : 2 ^ 125 ≤ G := by
    have := bln_ge (N := G) (fun y => by rw [y] at hG; exact absurd hG (by decide))
    rw [hG] at this
    exact this
  have p126 : (2 : Nat) ^ 126 = 85070591730234615865843651857942052864 := by decide
  have p127 : (2 : Nat) ^ 127 = 170141183460469231731687303715884105728 := by decide
  have p125 : (2 : Nat) ^ 125 = 42535295865117307932921825928971026432 := by decide
  by_cases q : s = z
  · rw [if_pos q]
    refine ⟨Nat.le_refl 1, fun _ => ⟨?_, bln_le ?_⟩, rfl⟩
    · show G + J ≠ 0
      omega
    · show G + J < 2 ^ 127
      omega
  · rw [if_neg q]
    by_cases q2 : J = G
    · rw [if_pos q2]
      exact ⟨Nat.zero_le 1, fun y => absurd y (show ¬ (0 : Nat) = 1 by decide), rfl⟩
    · rw [if_neg q2]
      refine ⟨Nat.le_refl 1, fun _ => ⟨?_, bln_le ?_⟩, rfl⟩
      · show G - J ≠ 0
        omega
      · show G - J < 2 ^ 127
        omega
theorem jm_b {G L d : Nat} (hG : bln G = 126) (hL : bln L = 126) (h : d = 0 → L ≤ G) : jm L d false < 2 ^ 126 ∧ jm L d false ≤ G := by
  have L2 : L < 2 ^ 126 := by rw [← hL]; exact bln_lt L
  have G3 : 2 ^ 125 ≤ G := by
    have := bln_ge (N := G) (fun y => by rw [y] at hG; exact absurd hG (by decide))
    rw [hG] at this
    exact this
  by_cases q : d = 0
  · rw [q, jm_0]
    exact ⟨L2, h q⟩
  · have := jm_lt L2 (show 1 ≤ d by omega)
    have p126 : (2 : Nat) ^ 126 = 85070591730234615865843651857942052864 := by decide
    have p125 : (2 : Nat) ^ 125 = 42535295865117307932921825928971026432 := by decide
    omega
theorem X66_lay (o : FlC u c M) (hi : i < 3) (hj : j < 3) (hij : i ≠ j) (hS : S 3) (hSi : S i) (hSj : S j) (va : Tk c i M X) (vb : Tk c j M Y) (hX : X.1 = 1) (hY : Y.1 = 1) (gX : gW X) (gY : gW Y) :
    ∃ N, (HX66_lay (c i) (c j) (1 + md) (c 3) M ∧ GX66_lay (c i) (c j) (1 + md) (c 3) M = N) ∧ Cf c S 0 M N ∧
      Ou c 3 md N (smN md X.2.1 Y.2.1 (X.2.2.1 * 2 ^ (X.2.2.2 - (if X.2.2.2 ≤ Y.2.2.2 then X.2.2.2 else Y.2.2.2)).toNat) (Y.2.2.1 * 2 ^ (Y.2.2.2 - (if X.2.2.2 ≤ Y.2.2.2 then X.2.2.2 else Y.2.2.2)).toNat) (if X.2.2.2 ≤ Y.2.2.2 then X.2.2.2 else Y.2.2.2)) := by
  obtain ⟨kx, s, A, p⟩ := X
  obtain ⟨ky, z, B, q⟩ := Y
  obtain ⟨-, gX, -⟩ := gX
  obtain ⟨-, gY, -⟩ := gY
  replace hX : kx = 1 := hX
  replace hY : ky = 1 := hY
  subst hX
  subst hY
  obtain ⟨x0, xb, x1, x2⟩ := gX rfl
  obtain ⟨y0, yb, y1, y2⟩ := gY rfl
  dsimp only at x0 xb x1 x2 y0 yb y1 y2 va vb ⊢
  have lt128 : ∀ K : Nat, bln K ≤ 110 → K < w128 := fun K h => by
    have a := bln_lt K
    have b : 2 ^ bln K ≤ 2 ^ 110 := Nat.pow_le_pow_right (by decide) h
    have d : (2 : Nat) ^ 110 < w128 := by rw [w128_p]; decide
    omega
  obtain ⟨h1, a1, a2, a3, -⟩ := X71_lift (p := 125) o (show i < 4 by omega) hSi (va.2 rfl) (lt128 A (by omega)) (by omega) (by omega)
  have o1 := cf_o o a1
  have l1 := X71_lift (S := fun k => k = i) (p := 125) o (show i < 4 by omega) rfl (va.2 rfl) (lt128 A (by omega)) (by omega) (by omega)
  have vb1 := tk_k o l1.2.1 (show j < 4 by omega) (fun y => hij y.symm) vb
  rw [show ((125 : Nat) : Int) = 125 from rfl] at h1 a1 a2 a3 o1 vb1
  have va1 : Tk c i (GX71_lift (c i) (Int32.ofInt 125) M) (1, s, A * 2 ^ (126 - bln A), p - ((126 - bln A : Nat) : Int)) := ⟨a3 _ _ va.1, fun _ => a2⟩
  clear l1
  unfold HX66_lay HX66_lay_0 GX66_lay GX66_lay_0
  dsimp only
  generalize GX71_lift (c i) (Int32.ofInt 125) M = M1 at *
  obtain ⟨h2, b1, b2, b3, -⟩ := X71_lift (p := 125) o1 (show j < 4 by omega) hSj (vb1.2 rfl) (lt128 B (by omega)) (by omega) (by omega)
  have o2 := cf_o o1 b1
  have l2 := X71_lift (S := fun k => k = j) (p := 125) o1 (show j < 4 by omega) rfl (vb1.2 rfl) (lt128 B (by omega)) (by omega) (by omega)
  have va2 := tk_k o1 l2.2.1 (show i < 4 by omega) hij va1
  rw [show ((125 : Nat) : Int) = 125 from rfl] at h2 b1 b2 b3 o2 va2
  have vb2 : Tk c j (GX71_lift (c j) (Int32.ofInt 125) M1) (1, z, B * 2 ^ (126 - bln B), q - ((126 - bln B : Nat) : Int)) := ⟨b3 _ _ vb1.1, fun _ => b2⟩
  clear l2
  generalize GX71_lift (c j) (Int32.ofInt 125) M1 = M2 at *
  have gA : bln (A * 2 ^ (126 - bln A)) = 126 := by rw [bln_mul x0]; omega
  have gB : bln (B * 2 ^ (126 - bln B)) = 126 := by rw [bln_mul y0]; omega
  generalize hea : p - ((126 - bln A : Nat) : Int) = ea at *
  generalize heb : q - ((126 - bln B : Nat) : Int) = eb at *
  generalize hm : (if p ≤ q then p else q) = m
  have hA : bln A + (126 - bln A) = 126 ∧ A ≠ 0 ∧ bln A ≤ 110 := by omega
  have hB : bln B + (126 - bln B) = 126 ∧ B ≠ 0 ∧ bln B ≤ 110 := by omega
  have first : eb ≤ ea → (eb = ea → B * 2 ^ (126 - bln B) ≤ A * 2 ^ (126 - bln A)) → ∃ N, GX66_lay_52 (c i) (c j) (1 + md) (c 3) M2 = N ∧ Cf c S 0 M N ∧ Ou c 3 md N (smN md s z (A * 2 ^ (p - m).toNat) (B * 2 ^ (q - m).toNat) m) := fun e1 e2 => by
    obtain ⟨N, n1, n2, n3⟩ := lay_77 (md := md) o2 hi hj hij (Or.inl ⟨rfl, rfl⟩) hS hSj va2 vb2 e1 (by omega) gA gB e2
    have jb := jm_b (d := (ea - eb).toNat) gA gB (fun y => e2 (by omega))
    obtain ⟨k1, k2, k3⟩ := lay_b (md := md) (s := s) (z := z) (e := ea) gA jb.1 jb.2
    refine ⟨N, ?_, cf_0t a1 (cf_0t b1 n2), lay_ou n3 k1 k2 (by rw [k3]; omega) (fun t ht => lay_R ht s z hA hB hea.symm heb.symm hm.symm e1 e2)⟩
    unfold GX66_lay_52 GX66_lay_53 GX66_lay_65
    rw [fi_pos (show Int32.ofInt 0 = 0 from rfl), fi_pos (show Int32.ofInt 0 = 0 from rfl)]
    exact n1
  have second : ea ≤ eb → (ea = eb → A * 2 ^ (126 - bln A) ≤ B * 2 ^ (126 - bln B)) → ∃ N, GX66_lay_48 (c i) (c j) (1 + md) (c 3) M2 = N ∧ Cf c S 0 M N ∧ Ou c 3 md N (smN md s z (A * 2 ^ (p - m).toNat) (B * 2 ^ (q - m).toNat) m) := fun e1 e2 => by
    obtain ⟨N, n1, n2, n3⟩ := lay_77 (md := md) o2 hj hi (fun y => hij y.symm) (Or.inr ⟨rfl, rfl⟩) hS hSi vb2 va2 e1 (by omega) gB gA e2
    have jb := jm_b (d := (eb - ea).toNat) gB gA (fun y => e2 (by omega))
    obtain ⟨k1, k2, k3⟩ := lay_b (md := md) (s := z) (z := s) (e := eb) gB jb.1 jb.2
    refine ⟨N, ?_, cf_0t a1 (cf_0t b1 n2), lay_ou n3 k1 k2 (by rw [k3]; omega) (fun t ht => ?_)⟩
    · unfold GX66_lay_48 GX66_lay_53 GX66_lay_65
      rw [fi_neg (show ¬ Int32.ofInt 1 = 0 by decide), fi_neg (show ¬ Int32.ofInt 1 = 0 by decide)]
      exact n1
    · rw [smN_c]
      exact lay_R ht z s hB hA heb.symm hea.symm (by rw [← hm]; split <;> split <;> omega) e1 e2
  obtain ⟨-, li, -, -⟩ := o2.2.2.2.1 i (by omega)
  obtain ⟨-, lj, -, -⟩ := o2.2.2.2.1 j (by omega)
  rw [(va2.2 rfl).1, (vb2.2 rfl).1, li, lj, X62_isBelow, (va2.2 rfl).2, (vb2.2 rfl).2]
  dsimp only at first second ⊢
  rw [fi_bz, propext (iz_lt (a := ea) (b := eb) (by omega)), propext (iz_eq (a := ea) (b := eb) (by omega))]
  have fin' : ∀ T : FM, (∃ N, T = N ∧ Cf c S 0 M N ∧ Ou c 3 md N (smN md s z (A * 2 ^ (p - m).toNat) (B * 2 ^ (q - m).toNat) m)) → ∃ N, ((HX71_lift (c i) (Int32.ofInt 125) M ∧ HX71_lift (c j) (Int32.ofInt 125) M1 ∧ True) ∧ T = N) ∧ Cf c S 0 M N ∧ Ou c 3 md N (smN md s z (A * 2 ^ (p - m).toNat) (B * 2 ^ (q - m).toNat) m) := fun T ⟨N, a, b⟩ => ⟨N, ⟨⟨h1, h2, trivial⟩, a⟩, b⟩
  apply fin'
  by_cases c1 : ea < eb
  · rw [fi_pos c1]
    exact second (by omega) (fun y => by omega)
  · rw [fi_neg c1]
    by_cases c2 : ea = eb
    · rw [fi_pos c2]
      by_cases c3 : A * 2 ^ (126 - bln A) < B * 2 ^ (126 - bln B)
      · rw [fi_pos c3]
        exact second (by omega) (fun _ => Nat.le_of_lt c3)
      · rw [fi_neg c3]
        exact first (by omega) (fun _ => by omega)
    · rw [fi_neg c2]
      exact first (by omega) (fun y => absurd y.symm c2)
end Lc
