/-! floats: the component's operations: no number, products, the same -/
set_option maxRecDepth 100000
/-- what stands in one taken apart -/
def Tk (c : Nat → Nat) (k : Nat) (M : FM) (x : UU) : Prop := TkV c k M x.1 x.2.1 ∧ (x.1 = 1 → TkN c k M x.2.2.2 x.2.2.1)
def gW (x : UU) : Prop := x.1 ≤ 4 ∧ (x.1 = 1 → x.2.2.1 ≠ 0 ∧ bln x.2.2.1 ≤ 108 ∧ -3000 ≤ x.2.2.2 ∧ x.2.2.2 ≤ 3000) ∧ (x.1 = 0 → x.2.2.1 = 0)
/-- what came out stands for R -/
def Ou (c : Nat → Nat) (k md : Nat) (M : FM) (R : Rt) : Prop := ∃ x : UU, Tk c k M x ∧ x.1 ≤ 4 ∧ (x.1 = 1 → x.2.2.1 ≠ 0 ∧ bln x.2.2.1 ≤ 127 ∧ -9000 ≤ x.2.2.2 ∧ x.2.2.2 ≤ 9000) ∧
  ∀ t, t ≤ 1 → finF t md (x.1, x.2.1, x.2.2.1, x.2.2.2, false) = finF t md R
def exU (R : Rt) : UU := (R.1, R.2.1, R.2.2.1, R.2.2.2.1)
section Oc
variable {u k i j t kd md a b : Nat} {c : Nat → Nat} {S : Nat → Prop} {M N : FM} {sg : Bool} {X Y : UU}
theorem X71_isx (v : TkV c k M kd sg) (l : Nat) : GX71_is (c k) l M = (bz (6 + kd = l), M) := by
  unfold GX71_is GX71_is_0 GX71_is_13
  dsimp only
  rw [v.1]
  by_cases q : 6 + kd = l
  · rw [fi_pos q, bz_t q]
  · rw [fi_neg q, bz_f q]
theorem e60 : (6 + kd = 6) = (kd = 0) := propext ⟨fun h => by omega, fun h => by omega⟩
theorem e61 : (6 + kd = 7) = (kd = 1) := propext ⟨fun h => by omega, fun h => by omega⟩
theorem e62 : (6 + kd = 8) = (kd = 2) := propext ⟨fun h => by omega, fun h => by omega⟩
theorem e64 : (6 + kd = 10) = (kd = 4) := propext ⟨fun h => by omega, fun h => by omega⟩
theorem X71_is0 (v : TkV c k M kd sg) : GX71_is (c k) 6 M = (bz (kd = 0), M) := by rw [X71_isx v, e60]
theorem X71_is1 (v : TkV c k M kd sg) : GX71_is (c k) 7 M = (bz (kd = 1), M) := by rw [X71_isx v, e61]
theorem X71_is2 (v : TkV c k M kd sg) : GX71_is (c k) 8 M = (bz (kd = 2), M) := by rw [X71_isx v, e62]
theorem X71_is4 (v : TkV c k M kd sg) : GX71_is (c k) 10 M = (bz (kd = 4), M) := by rw [X71_isx v, e64]
theorem X72_isNone (h : kd ≤ 4) : GX72_isNone (6 + kd) M = (bz (3 ≤ kd), M) := by
  unfold GX72_isNone GX72_isNone_0 GX72_isNone_14 GX72_isNone_19
  rcases (show kd = 0 ∨ kd = 1 ∨ kd = 2 ∨ kd = 3 ∨ kd = 4 by omega) with q | q | q | q | q <;> subst q
  · rw [fi_neg (by decide), fi_neg (by decide), bz_f (by decide)]
  · rw [fi_neg (by decide), fi_neg (by decide), bz_f (by decide)]
  · rw [fi_neg (by decide), fi_neg (by decide), bz_f (by decide)]
  · rw [fi_pos (by decide), bz_t (by decide)]
  · rw [fi_neg (by decide), fi_pos (by decide), bz_t (by decide)]
/-- into the last one: none -/
theorem X65_none (o : FlC u c M) (hS : S 3) : Cf c S 0 M (GX65_none (c 3) M) ∧ TkV c 3 (GX65_none (c 3) M) 3 false := by
  obtain ⟨a1, a2, -, -⟩ := X71_become (kd := 3) (sg := false) o (show 3 < 4 by decide) (by decide) hS
  have e : GX65_none (c 3) M = GX71_become (c 3) (6 + 3) (bz (false = true)) M := by
    rw [bz_f (c := (false = true)) (by decide)]
    rfl
  rw [e]
  exact ⟨a1, a2⟩
theorem X65_refuse (o : FlC u c M) (hS : S 3) : (HX65_refuse (c 12) (c 3) M) ∧ Cf c S 16 M (GX65_refuse (c 12) (c 3) M) ∧ TkV c 3 (GX65_refuse (c 12) (c 3) M) 3 false := by
  obtain ⟨h, b⟩ := cf_f (S := S) (fl := 16) o (by decide)
  have o1 := cf_o o b
  obtain ⟨d1, d2⟩ := X65_none (S := S) o1 hS
  exact ⟨⟨h, trivial⟩, cf_t0 b d1, d2⟩
theorem X65_isNone (o : FlC u c M) (hS : S 3) (hi : i < 4) (hj : j < 4) (va : TkV c i M a sg) {zg : Bool} (vb : TkV c j M b zg) (ha : a ≤ 4) (hb : b ≤ 4) :
    ∃ N, (HX65_isNone (c i) (c j) (c 12) (c 3) M ∧ GX65_isNone (c i) (c j) (c 12) (c 3) M = (bz (3 ≤ a ∨ 3 ≤ b), N)) ∧
      ((¬ (3 ≤ a ∨ 3 ≤ b) ∧ N = M) ∨ ((3 ≤ a ∨ 3 ≤ b) ∧ Cf c S (if a = 4 ∨ b = 4 then 16 else 0) M N ∧ TkV c 3 N 3 false)) := by
  have K59 : ∀ fl, fl < 4294967296 → HX65_isNone_59 (c 3) (Int32.ofInt 1) (c 12) (nI fl) M ∧ ∃ N, GX65_isNone_59 (c 3) (Int32.ofInt 1) (c 12) (nI fl) M = (Int32.ofInt 1, N) ∧ Cf c S fl M N ∧ TkV c 3 N 3 false := fun fl hf => by
    obtain ⟨h, b1⟩ := cf_f (S := S) (fl := fl) o hf
    obtain ⟨d1, d2⟩ := X65_none (S := S) (cf_o o b1) hS
    exact ⟨⟨h, trivial⟩, _, rfl, cf_t0 b1 d1, d2⟩
  have K25 : (3 ≤ a ∨ 3 ≤ b) → HX65_isNone_25 (c i) (c j) (c 12) (c 3) (Int32.ofInt 1) M ∧ ∃ N, GX65_isNone_25 (c i) (c j) (c 12) (c 3) (Int32.ofInt 1) M = (Int32.ofInt 1, N) ∧ Cf c S (if a = 4 ∨ b = 4 then 16 else 0) M N ∧ TkV c 3 N 3 false := fun q => by
    unfold HX65_isNone_25 GX65_isNone_25 HX65_isNone_53 GX65_isNone_53
    dsimp only
    rw [fi_neg (show ¬ Int32.ofInt 1 = 0 by decide), X71_is4 va, X71_is4 vb]
    dsimp only
    rw [fi_bz, fi_bz]
    have k16 := K59 16 (by decide)
    have k0 := K59 0 (by decide)
    by_cases q4 : a = 4
    · rw [fi_pos q4, if_pos (Or.inl q4), bz_t q4]
      exact ⟨⟨fun z => absurd z (by decide), fun _ => ⟨fun z => absurd z (by decide), fun _ => k16.1⟩⟩, k16.2⟩
    · rw [fi_neg q4, bz_f q4]
      by_cases q5 : b = 4
      · rw [fi_pos q5, if_pos (Or.inr q5), bz_t q5]
        exact ⟨⟨fun z => absurd z (by decide), fun _ => ⟨fun _ => ⟨fun z => absurd z (by decide), fun _ => k16.1⟩, fun z => absurd rfl z⟩⟩, k16.2⟩
      · rw [fi_neg q5, if_neg (fun z => z.elim q4 q5), bz_f q5]
        exact ⟨⟨fun z => absurd z (by decide), fun _ => ⟨fun _ => ⟨fun _ => k0.1, fun z => absurd rfl z⟩, fun z => absurd rfl z⟩⟩, k0.2⟩
  unfold HX65_isNone HX65_isNone_0 GX65_isNone GX65_isNone_0 HX65_isNone_20 GX65_isNone_20
  dsimp only
  rw [va.1, X72_isNone ha]
  dsimp only
  rw [vb.1, X72_isNone hb]
  dsimp only
  rw [fi_bz, fi_bz]
  by_cases q3 : 3 ≤ a
  · rw [fi_pos q3, bz_t q3, bz_t (Or.inl q3)]
    obtain ⟨h, N, e, r⟩ := K25 (Or.inl q3)
    exact ⟨N, ⟨⟨fun z => absurd z (by decide), fun _ => h⟩, e⟩, Or.inr ⟨Or.inl q3, r⟩⟩
  · rw [fi_neg q3, bz_f q3]
    by_cases q4 : 3 ≤ b
    · rw [fi_pos q4, bz_t q4, bz_t (Or.inr q4)]
      obtain ⟨h, N, e, r⟩ := K25 (Or.inr q4)
      exact ⟨N, ⟨⟨fun _ => ⟨fun z => absurd z (by decide), fun _ => h⟩, fun z => absurd rfl z⟩, e⟩, Or.inr ⟨Or.inr q4, r⟩⟩
    · rw [fi_neg q4, bz_f q4, bz_f (fun z => z.elim q3 q4)]
      refine ⟨M, ⟨⟨fun _ => ⟨fun _ => ⟨fun _ => trivial, fun z => absurd rfl z⟩, fun z => absurd rfl z⟩, fun z => absurd rfl z⟩, ?_⟩, Or.inl ⟨fun z => z.elim q3 q4, rfl⟩⟩
      unfold GX65_isNone_25 GX65_isNone_66
      rw [fi_pos (show Int32.ofInt 0 = 0 from rfl)]
theorem ou_k {R : Rt} {kd : Nat} {sg : Bool} (v : TkV c k M kd sg) (h4 : kd ≤ 4) (h1 : kd ≠ 1) (hR : ∀ t, t ≤ 1 → finF t md (kd, sg, 0, 0, false) = finF t md R) : Ou c k md M R :=
  ⟨(kd, sg, 0, 0), ⟨v, fun z => absurd z h1⟩, h4, fun z => absurd z h1, hR⟩
theorem tk_k (o : FlC u c M) {fl : Nat} (h : Cf c S fl M N) (hk : k < 4) (n : ¬ S k) {x : UU} (v : Tk c k M x) : Tk c k N x :=
  ⟨frC_k o h.1 hk n v.1, fun z => frC_n o h.1 hk n (v.2 z)⟩
theorem sub1 (x : Nat) (h : x < 18446744073709551616) : ul (lN x) = x := l_big h
/-- products -/
theorem X67_work (o : FlC u c M) (hS : S 3) (hi : i < 3) (hj : j < 3) {op m : Nat} (va : Tk c i M X) (vb : Tk c j M Y) (gX : gdU X) (gY : gdU Y) (hX : X.1 ≤ 2) (hY : Y.1 ≤ 2) :
    ∃ N, (HX67_work op (c i) (c j) m (c 12) (c 3) M ∧ GX67_work op (c i) (c j) m (c 12) (c 3) M = N) ∧ Cf c S (mulR X Y).2 M N ∧ Tk c 3 N (exU (mulR X Y).1) ∧ (mulR X Y).1.2.2.2.2 = false ∧ gW (exU (mulR X Y).1) := by
  have di := o.2.2.1 i (by omega) 3 (by omega) (by omega)
  have dj := o.2.2.1 j (by omega) 3 (by omega) (by omega)
  obtain ⟨-, li, -, -⟩ := o.2.2.2.1 i (by omega)
  obtain ⟨-, lj, -, -⟩ := o.2.2.2.1 j (by omega)
  obtain ⟨-, l3, -, -⟩ := o.2.2.2.1 3 (by omega)
  have hsx : (bz (X.2.1 = true) = bz (Y.2.1 = true)) ↔ ¬ (X.2.1 ^^ Y.2.1) = true := by
    rw [bz_ii]
    cases X.2.1 <;> cases Y.2.1 <;> decide
  have K16 : ∀ z : Bool, z = (X.2.1 ^^ Y.2.1) → ∃ N, (HX67_work_16 (c i) (c j) (c 12) (c 3) (bz (z = true)) M ∧ GX67_work_16 (c i) (c j) (c 12) (c 3) (bz (z = true)) M = N) ∧ Cf c S (mulR X Y).2 M N ∧ Tk c 3 N (exU (mulR X Y).1) ∧ (mulR X Y).1.2.2.2.2 = false ∧ gW (exU (mulR X Y).1) := fun z hz => by
    have R58 : X.1 = 2 ∧ Y.1 = 0 ∨ X.1 = 0 ∧ Y.1 = 2 → ∃ N, (HX67_work_58 (c 12) (c 3) M ∧ GX67_work_58 (c 12) (c 3) M = N) ∧ Cf c S (mulR X Y).2 M N ∧ Tk c 3 N (exU (mulR X Y).1) ∧ (mulR X Y).1.2.2.2.2 = false ∧ gW (exU (mulR X Y).1) := fun q => by
      obtain ⟨h, b1, b2⟩ := X65_refuse (S := S) o hS
      unfold mulR
      rw [if_pos q]
      exact ⟨_, ⟨⟨h, trivial⟩, rfl⟩, b1, ⟨b2, fun y => absurd y (show ¬ (3 : Nat) = 1 by decide)⟩, rfl, (show (3 : Nat) ≤ 4 by decide), fun y => absurd y (show ¬ (3 : Nat) = 1 by decide), fun _ => rfl⟩
    have R168 : ∀ kd, kd ≤ 2 → kd ≠ 1 → (mulR X Y) = ((kd, z, 0, 0, false), 0) → ∃ N, GX67_work_168 (bz (z = true)) (c 3) (6 + kd) M = N ∧ Cf c S (mulR X Y).2 M N ∧ Tk c 3 N (exU (mulR X Y).1) ∧ (mulR X Y).1.2.2.2.2 = false ∧ gW (exU (mulR X Y).1) := fun kd hk h1 e => by
      obtain ⟨b1, b2, -, -⟩ := X71_become (S := S) (kd := kd) (sg := z) o (show 3 < 4 by decide) (by omega) hS
      rw [e]
      exact ⟨_, rfl, b1, ⟨b2, fun y => absurd y h1⟩, rfl, (show kd ≤ 4 by omega), fun y => absurd y h1, fun _ => rfl⟩
    have R137 : ¬ (X.1 = 2 ∧ Y.1 = 0 ∨ X.1 = 0 ∧ Y.1 = 2) → ¬ (X.1 = 1 ∧ Y.1 = 1) → ∃ N, GX67_work_137 (c i) (c j) (c 3) (bz (z = true)) M = N ∧ Cf c S (mulR X Y).2 M N ∧ Tk c 3 N (exU (mulR X Y).1) ∧ (mulR X Y).1.2.2.2.2 = false ∧ gW (exU (mulR X Y).1) := fun q q1 => by
      unfold GX67_work_137 GX67_work_159
      rw [X71_is2 va.1]
      dsimp only
      rw [X71_is2 vb.1]
      dsimp only
      rw [fi_bz, fi_bz]
      by_cases q2 : X.1 = 2
      · rw [fi_pos q2]
        exact R168 2 (by decide) (by decide) (by
          unfold mulR
          rw [if_neg q, if_pos (Or.inl q2), hz])
      · rw [fi_neg q2]
        by_cases q3 : Y.1 = 2
        · rw [fi_pos q3]
          exact R168 2 (by decide) (by decide) (by
            unfold mulR
            rw [if_neg q, if_pos (Or.inr q3), hz])
        · rw [fi_neg q3]
          exact R168 0 (by decide) (by decide) (by
            unfold mulR
            rw [if_neg q, if_neg (fun y => y.elim q2 q3), if_pos (by omega), hz])
    have R68 : ¬ (X.1 = 2 ∧ Y.1 = 0 ∨ X.1 = 0 ∧ Y.1 = 2) → ∃ N, GX67_work_68 (c i) (c j) (c 3) (bz (z = true)) M = N ∧ Cf c S (mulR X Y).2 M N ∧ Tk c 3 N (exU (mulR X Y).1) ∧ (mulR X Y).1.2.2.2.2 = false ∧ gW (exU (mulR X Y).1) := fun q => by
      unfold GX67_work_68
      rw [X71_is1 va.1]
      dsimp only
      rw [X71_is1 vb.1]
      dsimp only
      rw [fi_bz, fi_bz]
      by_cases q1 : X.1 = 1
      · rw [fi_pos q1]
        by_cases q2 : Y.1 = 1
        · rw [fi_pos q2]
          have e : mulR X Y = ((1, z, X.2.2.1 * Y.2.2.1, X.2.2.2 + Y.2.2.2, false), 0) := by
            unfold mulR
            rw [if_neg q, if_neg (by omega), if_neg (by omega), hz]
          rw [e]
          obtain ⟨b1, b2, b3, b4⟩ := X71_become (S := S) (kd := 1) (sg := z) o (show 3 < 4 by decide) (by decide) hS
          have o1 := cf_o o b1
          have v1 := va.2 q1
          have v2 := vb.2 q2
          obtain ⟨-, li, -, -⟩ := o1.2.2.2.1 i (by omega)
          obtain ⟨-, lj, -, -⟩ := o1.2.2.2.1 j (by omega)
          obtain ⟨-, l3, -, -⟩ := o1.2.2.2.1 3 (by omega)
          have bX := gdb gX
          have bY := gdb gY
          have sX : X.2.2.1 < 2 ^ 54 := gX.2.1
          have sY : Y.2.2.1 < 2 ^ 54 := gY.2.1
          have p54 : (2 : Nat) ^ 54 = 18014398509481984 := by decide
          have pr : X.2.2.1 * Y.2.2.1 < 2 ^ 108 := by
            calc X.2.2.1 * Y.2.2.1 < 2 ^ 54 * 2 ^ 54 := Nat.mul_lt_mul'' sX sY
            _ = 2 ^ 108 := by decide
          have p108 : (2 : Nat) ^ 108 < w128 := by rw [w128_p]; decide
          have x0 : X.2.2.1 ≠ 0 := fun y => by have := (gX.2.2.2 (by omega)).mp y; omega
          have y0 : Y.2.2.1 ≠ 0 := fun y => by have := (gY.2.2.2 (by omega)).mp y; omega
          have eI : (GX71_become (c 3) (6 + 1) (bz (z = true)) M).2.1 120 (c (4 + i)) 0 = lN X.2.2.1 := by
            rw [b4, wv_l, v1.2, Nat.mod_eq_of_lt (by omega)]
          have eJ : (GX71_become (c 3) (6 + 1) (bz (z = true)) M).2.1 120 (c (4 + j)) 0 = lN Y.2.2.1 := by
            rw [b4, wv_l, v2.2, Nat.mod_eq_of_lt (by omega)]
          have e1 : (GX71_become (c 3) (6 + 1) (bz (z = true)) M).1 116 (c i) 0 = Int32.ofInt X.2.2.2 := (oI (fun q => by omega)).trans v1.1
          have e2 : (GX71_become (c 3) (6 + 1) (bz (z = true)) M).1 116 (c j) 0 = Int32.ofInt Y.2.2.2 := (oI (fun q => by omega)).trans v2.1
          generalize GX71_become (c 3) (6 + 1) (bz (z = true)) M = K at *
          have b5 := cf_W (S := S) o1 (show 3 < 4 by decide) (X.2.2.1 * Y.2.2.1) hS
          have b6 := cf_I6 (S := S) (cf_o o1 b5) (show 3 < 4 by decide) (Int32.ofInt (X.2.2.2 + Y.2.2.2)) hS
          refine ⟨fm_sI (wSF (c (4 + 3)) (X.2.2.1 * Y.2.2.1) K) 116 (c 3) 0 (Int32.ofInt (X.2.2.2 + Y.2.2.2)), ?_, cf_0t b1 (cf_0t b5 b6), ⟨⟨b2.1, (oI (fun q => by omega)).trans b2.2⟩, fun _ => ⟨sI_at _ _ _ _ _, ?_⟩⟩, rfl, (show (1 : Nat) ≤ 4 by decide), fun _ => ⟨?_, bln_le pr, ?_, ?_⟩, fun y => absurd y (show ¬ (1 : Nat) = 0 by decide)⟩
          · unfold GX67_work_173
            rw [li, lj, l3, eI, eJ, X62_multiply, bX.2, bY.2]
            show fm_sI (wSF (c (4 + 3)) (X.2.2.1 * Y.2.2.1) K) 116 (c 3) 0 (K.1 116 (c i) 0 + K.1 116 (c j) 0) = _
            rw [e1, e2, iz_a]
          · exact wv_wS (by omega)
          · exact fun y => (Nat.mul_eq_zero.mp y).elim x0 y0
          · have := gX.2.2.1
            have := gY.2.2.1
            show -3000 ≤ X.2.2.2 + Y.2.2.2
            omega
          · have := gX.2.2.1
            have := gY.2.2.1
            show X.2.2.2 + Y.2.2.2 ≤ 3000
            omega
        · rw [fi_neg q2]
          exact R137 q (fun y => q2 y.2)
      · rw [fi_neg q1]
        exact R137 q (fun y => q1 y.1)
    have R38 : ¬ (X.1 = 2 ∧ Y.1 = 0) → ∃ N, (HX67_work_38 (c i) (c j) (c 12) (c 3) (bz (z = true)) M ∧ GX67_work_38 (c i) (c j) (c 12) (c 3) (bz (z = true)) M = N) ∧ Cf c S (mulR X Y).2 M N ∧ Tk c 3 N (exU (mulR X Y).1) ∧ (mulR X Y).1.2.2.2.2 = false ∧ gW (exU (mulR X Y).1) := fun q => by
      unfold HX67_work_38 GX67_work_38
      rw [X71_is0 va.1]
      dsimp only
      rw [X71_is2 vb.1]
      dsimp only
      rw [fi_bz, fi_bz]
      by_cases q1 : X.1 = 0
      · rw [fi_pos q1, bz_t q1]
        by_cases q2 : Y.1 = 2
        · rw [fi_pos q2, bz_t q2]
          obtain ⟨N, ⟨h, e⟩, r⟩ := R58 (Or.inr ⟨q1, q2⟩)
          exact ⟨N, ⟨⟨fun y => absurd y (by decide), fun _ => ⟨fun y => absurd y (by decide), fun _ => h⟩⟩, e⟩, r⟩
        · rw [fi_neg q2, bz_f q2]
          obtain ⟨N, e, r⟩ := R68 (by omega)
          exact ⟨N, ⟨⟨fun y => absurd y (by decide), fun _ => ⟨fun _ => trivial, fun y => absurd rfl y⟩⟩, e⟩, r⟩
      · rw [fi_neg q1, bz_f q1]
        obtain ⟨N, e, r⟩ := R68 (by omega)
        exact ⟨N, ⟨⟨fun _ => trivial, fun y => absurd rfl y⟩, e⟩, r⟩
    unfold HX67_work_16 GX67_work_16
    rw [X71_is2 va.1]
    dsimp only
    rw [X71_is0 vb.1]
    dsimp only
    rw [fi_bz, fi_bz]
    by_cases q1 : X.1 = 2
    · rw [fi_pos q1, bz_t q1]
      by_cases q2 : Y.1 = 0
      · rw [fi_pos q2, bz_t q2]
        obtain ⟨N, ⟨h, e⟩, r⟩ := R58 (Or.inl ⟨q1, q2⟩)
        exact ⟨N, ⟨⟨fun y => absurd y (by decide), fun _ => ⟨fun y => absurd y (by decide), fun _ => h⟩⟩, e⟩, r⟩
      · rw [fi_neg q2, bz_f q2]
        obtain ⟨N, ⟨h, e⟩, r⟩ := R38 (by omega)
        exact ⟨N, ⟨⟨fun y => absurd y (by decide), fun _ => ⟨fun _ => h, fun y => absurd rfl y⟩⟩, e⟩, r⟩
    · rw [fi_neg q1, bz_f q1]
      obtain ⟨N, ⟨h, e⟩, r⟩ := R38 (by omega)
      exact ⟨N, ⟨⟨fun _ => h, fun y => absurd rfl y⟩, e⟩, r⟩
  unfold HX67_work HX67_work_0 GX67_work GX67_work_0
  rw [va.1.2, vb.1.2, propext hsx]
  by_cases q : (X.2.1 ^^ Y.2.1) = true
  · rw [fi_neg (fun y => y q)]
    obtain ⟨N, ⟨h, e⟩, r⟩ := K16 true q.symm
    rw [bz_t (show true = true from rfl)] at h e
    exact ⟨N, ⟨⟨fun y => absurd q y, fun _ => h⟩, e⟩, r⟩
  · rw [fi_pos q]
    obtain ⟨N, ⟨h, e⟩, r⟩ := K16 false (by cases hh : (X.2.1 ^^ Y.2.1) <;> simp_all)
    rw [bz_f (show ¬ false = true by decide)] at h e
    exact ⟨N, ⟨⟨fun _ => h, fun y => absurd q y⟩, e⟩, r⟩
theorem X70_work (o : FlC u c M) (hS : S 3) (hi : i < 3) {op x m : Nat} (va : Tk c i M X) (h4 : X.1 ≤ 4) : Cf c S 0 M (GX70_work op (c i) x m (c 12) (c 3) M) ∧ Tk c 3 (GX70_work op (c i) x m (c 12) (c 3) M) X := by
  obtain ⟨a1, a2, a3⟩ := X71_copy (S := S) o (show i < 4 by omega) (show 3 < 4 by decide) (by omega) hS h4 va.1
  exact ⟨a1, a2, fun q => a3 _ _ (va.2 q)⟩
end Oc
