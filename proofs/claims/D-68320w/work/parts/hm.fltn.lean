/-! floats: the component's sums -/
set_option maxRecDepth 100000
section La
variable {t md d : Nat} {sg : Bool}
theorem rnd_w {N N' : Nat} {e m w : Int} (h1 : w ≤ e) (h2 : w ≤ m) (h : N * 2 ^ (e - w).toNat = N' * 2 ^ (m - w).toNat) (h0 : N ≠ 0) : rnd t md sg N e false = rnd t md sg N' m false := by
  have p1 : 2 ^ (e - w).toNat ≠ 0 := Nat.pos_iff_ne_zero.mp (Nat.two_pow_pos _)
  have h0' : N' ≠ 0 := fun q => by
    rw [q, Nat.zero_mul] at h
    exact (Nat.mul_eq_zero.mp h).elim h0 p1
  have a := rnd_sc (t := t) (md := md) (sg := sg) (N := N) (j := (e - w).toNat) (sc := e) h0
  have b := rnd_sc (t := t) (md := md) (sg := sg) (N := N') (j := (m - w).toNat) (sc := m) h0'
  rw [← a, ← b, h, show e - ((e - w).toNat : Int) = w by omega, show m - ((m - w).toNat : Int) = w by omega]
theorem lay_a {G L : Nat} {el : Int} (ht : t ≤ 1) (hG : G % 2 = 0) (hG2 : 2 ^ 125 ≤ G) : rnd t md sg (G + jm L d false) (el + d) false = rnd t md sg (G * 2 ^ d + L) el false := by
  rw [← jm_add (fun _ => hG)]
  refine rnd_jm ?_
  have h : 125 + d < bln (G * 2 ^ d + L) := bln_gt (by
    rw [Nat.pow_add]
    have := Nat.mul_le_mul_right (2 ^ d) hG2
    omega)
  have := p2F ht
  omega
theorem lay_s {G L : Nat} {el : Int} (ht : t ≤ 1) (hG : G % 2 = 0) (hL : L % 2 = 0) (hG2 : 2 ^ 125 ≤ G) (hL2 : L < 2 ^ 126) (hle : L < G * 2 ^ d) : rnd t md sg (G - jm L d false) (el + d) false = rnd t md sg (G * 2 ^ d - L) el false := by
  have pd := Nat.two_pow_pos d
  by_cases q : L % 2 ^ d = 0
  · have e : jm L d false = L / 2 ^ d := by rw [jm_f, fi_neg (fun z => z q)]
    have e2 : L = L / 2 ^ d * 2 ^ d := by
      have := Nat.div_add_mod L (2 ^ d)
      rw [Nat.mul_comm] at this
      omega
    have e3 : G * 2 ^ d - L = (G - L / 2 ^ d) * 2 ^ d := by
      rw [Nat.sub_mul]
      omega
    have n0 : G - L / 2 ^ d ≠ 0 := fun z => by
      rw [z, Nat.zero_mul] at e3
      omega
    have a := rnd_sc (t := t) (md := md) (sg := sg) (N := G - L / 2 ^ d) (j := d) (sc := el + d) n0
    rw [e, ← a, e3, show el + (d : Int) - d = el by omega]
  · have d2 : 2 ≤ d := by
      rcases (show d = 0 ∨ d = 1 ∨ 2 ≤ d by omega) with z | z | z
      · subst z
        exact absurd (Nat.mod_one L) q
      · subst z
        exact absurd hL q
      · exact z
    rw [← jm_sub (fun _ => hG) (Nat.le_of_lt hle)]
    refine rnd_jm ?_
    have h : 124 + d < bln (G * 2 ^ d - L) := bln_gt (by
      have a := Nat.mul_le_mul_right (2 ^ d) hG2
      have b : 2 ^ 125 * 2 ^ d = 2 * 2 ^ (124 + d) := by rw [← Nat.pow_add, show 125 + d = (124 + d) + 1 by omega, Nat.pow_succ, Nat.mul_comm]
      have e : (2 : Nat) ^ 126 ≤ 2 ^ (124 + d) := Nat.pow_le_pow_right (by decide) (by omega)
      omega)
    have := p2F ht
    omega
theorem jm_lt {L : Nat} (hL2 : L < 2 ^ 126) (hd : 1 ≤ d) : jm L d false < 2 ^ 125 := by
  have h : L / 2 ^ d < 2 ^ 125 := by
    have a : L / 2 ^ d ≤ L / 2 ^ 1 := Nat.div_le_div_left (Nat.pow_le_pow_right (by decide) hd) (by decide)
    have b : L / 2 ^ 1 < 2 ^ 125 := by
      have : (2 : Nat) ^ 126 = 2 ^ 125 * 2 ^ 1 := by decide
      exact Nat.div_lt_of_lt_mul (by rw [Nat.mul_comm, ← this]; exact hL2)
    omega
  rw [jm_f]
  have p : (2 : Nat) ^ 125 = 2 * 2 ^ 124 := by decide
  by_cases q : L % 2 ^ d ≠ 0
  · rw [fi_pos q]
    omega
  · rw [fi_neg q]
    exact h
end La
section Lb
variable {u g l i j md d : Nat} {c : Nat → Nat} {S : Nat → Prop} {M N : FM} {s z : Bool} {X Y : UU}
theorem lay_77 (o : FlC u c M) (hg : g < 3) (hl : l < 3) (hgl : g ≠ l) (hij : (i = g ∧ j = l) ∨ (i = l ∧ j = g)) (hS : S 3) (hSl : S l) {G L : Nat} {eg el : Int}
    (vg : Tk c g M (1, s, G, eg)) (vl : Tk c l M (1, z, L, el)) (he : el ≤ eg) (hb : -9000 ≤ eg ∧ eg ≤ 9000 ∧ -9000 ≤ el ∧ el ≤ 9000) (hG : bln G = 126) (hL : bln L = 126) (hGL : el = eg → L ≤ G) :
    ∃ N, GX66_lay_77 (c i) (c j) (1 + md) (c 3) (c g) (c l) M = N ∧ Cf c S 0 M N ∧
      Tk c 3 N (if s = z then (1, s, G + jm L (eg - el).toNat false, eg) else if jm L (eg - el).toNat false = G then (0, decide (md = 2), 0, eg) else (1, s, G - jm L (eg - el).toNat false, eg)) := by
  have G2 : G < 2 ^ 126 := by rw [← hG]; exact bln_lt G
  have L2 : L < 2 ^ 126 := by rw [← hL]; exact bln_lt L
  have G3 : 2 ^ 125 ≤ G := by
    have := bln_ge (N := G) (fun y => by rw [y] at hG; exact absurd hG (by decide))
    rw [hG] at this
    exact this
  have p126 : (2 : Nat) ^ 126 = 85070591730234615865843651857942052864 := by decide
  have p125 : (2 : Nat) ^ 125 = 42535295865117307932921825928971026432 := by decide
  have hJ : jm L (eg - el).toNat false ≤ G := by
    by_cases q : el = eg
    · rw [q, show (eg - eg).toNat = 0 by omega, jm_0]
      exact hGL q
    · exact Nat.le_of_lt (Nat.lt_of_lt_of_le (jm_lt L2 (by omega)) G3)
  generalize hJe : jm L (eg - el).toNat false = J at *
  have J2 : J < w128 := by rw [w128_e]; omega
  obtain ⟨-, ll, -, -⟩ := o.2.2.2.1 l (by omega)
  have ng : TkN c g M eg G := vg.2 rfl
  have nl : TkN c l M el L := vl.2 rfl
  have a1 := cf_W (S := fun k => k = l) o (show l < 4 by omega) J rfl
  have o1 := cf_o o a1
  have vg1 : Tk c g (wSF (c (4 + l)) J M) (1, s, G, eg) := tk_k o a1 (by omega) hgl vg
  have vl1 : Tk c l (wSF (c (4 + l)) J M) (1, z, J, el) := ⟨vl.1, fun _ => ⟨(vl.2 rfl).1, wv_wS J2⟩⟩
  have eM2 : GX62_jam (M.2.2 117 (c l) 0) (M.1 116 (c g) 0 - M.1 116 (c l) 0) M = wSF (c (4 + l)) J M := by
    rw [ll, ng.1, nl.1, iz_s, X62_jam (by omega), nl.2, hJe]
  obtain ⟨b1, b2, b3⟩ := X71_copy (S := fun k => k = 3) o1 (show g < 4 by omega) (show 3 < 4 by decide) (by omega) rfl (show (1 : Nat) ≤ 4 by decide) vg1.1
  have o2 := cf_o o1 b1
  have vg2 := tk_k o1 b1 (by omega) (show ¬ g = 3 by omega) vg1
  have vl2 := tk_k o1 b1 (by omega) (show ¬ l = 3 by omega) vl1
  have v3 : TkN c 3 (GX71_copy (c 3) (c g) (wSF (c (4 + l)) J M)) eg G := b3 _ _ (vg1.2 rfl)
  have nl2 : TkN c l (GX71_copy (c 3) (c g) (wSF (c (4 + l)) J M)) el J := vl2.2 rfl
  obtain ⟨-, l3, -, -⟩ := o2.2.2.2.1 3 (by decide)
  obtain ⟨-, ll2, -, -⟩ := o2.2.2.2.1 l (by omega)
  have hcmp : ((GX71_copy (c 3) (c g) (wSF (c (4 + l)) J M)).1 115 (c i) 0 = (GX71_copy (c 3) (c g) (wSF (c (4 + l)) J M)).1 115 (c j) 0) ↔ s = z := by
    rcases hij with ⟨y1, y2⟩ | ⟨y1, y2⟩ <;> subst y1 <;> subst y2
    · rw [vg2.1.2, vl2.1.2, bz_ii]
    · rw [vg2.1.2, vl2.1.2, bz_ii]
      exact eq_comm
  have ne : c (4 + l) ≠ c (4 + 3) := o.2.2.1 (4 + l) (by omega) (4 + 3) (by decide) (by omega)
  have a1' : Cf c S 0 M (wSF (c (4 + l)) J M) := cf_w a1 (fun k hk => by rw [hk]; exact hSl)
  have b1' := cf_w (S' := S) b1 (fun k hk => by rw [hk]; exact hS)
  unfold GX66_lay_77
  dsimp only
  rw [eM2, propext hcmp]
  generalize GX71_copy (c 3) (c g) (wSF (c (4 + l)) J M) = K at *
  rw [l3, ll2]
  by_cases q : s = z
  · rw [fi_pos q, if_pos q]
    have d1 := cf_W (S := S) o2 (show 3 < 4 by decide) (G + J) hS
    refine ⟨wSF (c (4 + 3)) (G + J) K, ?_, cf_0t a1' (cf_0t b1' d1), b2, fun _ => ⟨v3.1, wv_wS (by rw [w128_e]; omega)⟩⟩
    rw [X62_add ne, v3.2, nl2.2, Nat.mod_eq_of_lt (by rw [w128_e]; omega)]
  · rw [fi_neg q, if_neg q]
    have d1 := cf_W (S := S) o2 (show 3 < 4 by decide) (G - J) hS
    have o3 := cf_o o2 d1
    have eS : GX62_subtract (c (4 + 3)) (c (4 + l)) K = wSF (c (4 + 3)) (G - J) K := by
      rw [X62_subtract ne (by rw [v3.2, nl2.2]; exact hJ), v3.2, nl2.2]
    have l3' : (wSF (c (4 + 3)) (G - J) K).2.2 117 (c 3) 0 = c (4 + 3) := l3
    rw [eS, l3', X62_isZero, wv_wS (by rw [w128_e]; omega)]
    dsimp only
    rw [fi_bz]
    by_cases q2 : J = G
    · rw [fi_pos (show G - J = 0 by omega), if_pos q2]
      obtain ⟨f1, f2, -, -⟩ := X71_become (S := S) (kd := 0) (sg := decide (md = 2)) o3 (show 3 < 4 by decide) (by decide) hS
      have e : fi (1 + md = 3) (GX66_lay_166 (c 3) 6 (Int32.ofInt 1) (wSF (c (4 + 3)) (G - J) K)) (GX66_lay_166 (c 3) 6 (Int32.ofInt 0) (wSF (c (4 + 3)) (G - J) K)) = GX71_become (c 3) (6 + 0) (bz (decide (md = 2) = true)) (wSF (c (4 + 3)) (G - J) K) := by
        by_cases y : md = 2
        · rw [fi_pos (show 1 + md = 3 by omega), bz_t (decide_eq_true y)]
          rfl
        · rw [fi_neg (show ¬ 1 + md = 3 by omega), bz_f (fun x => y (of_decide_eq_true x))]
          rfl
      rw [e]
      exact ⟨_, rfl, cf_0t a1' (cf_0t b1' (cf_0t d1 f1)), f2, fun y => absurd y (show ¬ (0 : Nat) = 1 by decide)⟩
    · rw [fi_neg (show ¬ G - J = 0 by omega), if_neg q2]
      exact ⟨_, rfl, cf_0t a1' (cf_0t b1' d1), b2, fun _ => ⟨v3.1, wv_wS (by rw [w128_e]; omega)⟩⟩
end Lb
