/-! floats: integers out of numbers, numbers out of integers: what is asked, the component -/
set_option maxRecDepth 100000
/-- the least (below) or the greatest integer of a kind, without sign -/
def lim (b : Nat) (ng : Bool) : Nat := if b = 0 then (if ng = true then 2147483648 else 2147483647) else if b = 1 then (if ng = true then 0 else 4294967295) else if b = 2 then (if ng = true then 9223372036854775808 else 9223372036854775807) else (if ng = true then 0 else 18446744073709551615)
noncomputable def tlv (b : Nat) (x : Int64) (ng : Bool) : Int64 := if b < 2 then (if ng = true then -x else x).toInt32.toInt64 else (if ng = true then -x else x)
def toU (md : Nat) (X : UU) : Nat := if X.1 = 1 then rnU md (X.2.1 && decide (X.1 ≤ 2)) X.2.2.1 false (-X.2.2.2) else 0
def toC (X : UU) : Nat := if X.1 = 1 then cuC X.2.2.1 false (-X.2.2.2) else 0
def toF (X : UU) : Prop := 2 ≤ X.1 ∨ (X.1 = 1 ∧ 65 < X.2.2.2 + (bln X.2.2.1 : Int))
def toB (b md : Nat) (X : UU) : Prop := toF X ∨ lim b (X.2.1 && decide (X.1 ≤ 2)) < toU md X
/-- an integer out of a number, and flags -/
noncomputable def toI (b md : Nat) (X : UU) : Int64 × Nat :=
  (fi (toB b md X) (tlv b (lN (lim b (X.2.1 && decide (X.1 ≤ 2)))) (X.2.1 && decide (X.1 ≤ 2))) (tlv b (lN (toU md X)) (X.2.1 && decide (X.1 ≤ 2))), fi (toB b md X) 16 (fi (toC X = 0) 0 1))
/-- an integer of a kind, as a long -/
noncomputable def ownI (b : Nat) (v : Int64) : Int64 := if b = 0 then v.toInt32.toInt64 else if b = 1 then v &&& Int64.ofInt 4294967295 else v
def ngI (b : Nat) (x : Int64) : Bool := decide (b % 2 = 0) && decide (lg_cmp x (Int64.ofInt 0) < 0)
/-- its kind, sign and size -/
noncomputable def frI (b : Nat) (v : Int64) : Rt := let V := ul (if ngI b (ownI b v) = true then -(ownI b v) else ownI b v); (if V = 0 then 0 else 1, ngI b (ownI b v), V, 0, false)
section Iw
variable {u rg b md t : Nat} {c : Nat → Nat} {M N K : FM} {s : Fs} {w : Int32} {X : UU} {S : Nat → Prop}
theorem lim_le (hb : b < 4) (ng : Bool) : lim b ng < 18446744073709551616 := by
  rcases (show b = 0 ∨ b = 1 ∨ b = 2 ∨ b = 3 by omega) with q | q | q | q <;> subst q <;> cases ng <;> decide
theorem X64_limit (hb : b < 4) (h11 : M.1 11 (11 + b) 0 = Int32.ofInt (if b < 2 then 32 else 64)) (h12 : M.1 12 (11 + b) 0 = bz (b % 2 = 0)) (ng : Bool) : GX64_limit (11 + b) (bz (ng = true)) M = (lN (lim b ng), M) := by
  unfold GX64_limit GX64_limit_0 GX64_limit_43
  dsimp only
  rw [h11, h12, fi_bz, fi_bz, fi_bz]
  have key : ∀ x y : Int64, x = y → (x, M) = (y, M) := fun x y e => by rw [e]
  rcases (show b = 0 ∨ b = 1 ∨ b = 2 ∨ b = 3 by omega) with q | q | q | q <;> subst q
  · rw [fi_pos (show 0 % 2 = 0 by decide)]
    cases ng
    · rw [fi_neg (show ¬ false = true by decide)]
      exact key _ _ (by decide)
    · rw [fi_pos (show true = true from rfl)]
      exact key _ _ (by decide)
  · rw [fi_neg (show ¬ 1 % 2 = 0 by decide)]
    cases ng
    · rw [fi_neg (show ¬ false = true by decide)]
      exact key _ _ (by decide)
    · rw [fi_pos (show true = true from rfl)]
      exact key _ _ (by decide)
  · rw [fi_pos (show 2 % 2 = 0 by decide)]
    cases ng
    · rw [fi_neg (show ¬ false = true by decide)]
      exact key _ _ (by decide)
    · rw [fi_pos (show true = true from rfl)]
      exact key _ _ (by decide)
  · rw [fi_neg (show ¬ 3 % 2 = 0 by decide)]
    cases ng
    · rw [fi_neg (show ¬ false = true by decide)]
      exact key _ _ (by decide)
    · rw [fi_pos (show true = true from rfl)]
      exact key _ _ (by decide)
theorem X64_told (hb : b < 4) (h11 : M.1 11 (11 + b) 0 = Int32.ofInt (if b < 2 then 32 else 64)) (x : Int64) (ng : Bool) : GX64_told (11 + b) x (bz (ng = true)) M = (tlv b x ng, M) := by
  have k : ∀ y, GX64_told_10 (11 + b) y M = (if b < 2 then y.toInt32.toInt64 else y, M) := fun y => by
    unfold GX64_told_10 GX64_told_30
    rw [h11]
    by_cases q : b < 2
    · rw [if_pos q, if_pos q, fi_pos rfl]
    · rw [if_neg q, if_neg q, fi_neg (by decide)]
  unfold GX64_told GX64_told_0 tlv
  rw [fi_bz, k, k]
  cases ng
  · rw [fi_neg (show ¬ false = true by decide), if_neg (show ¬ false = true by decide)]
  · rw [fi_pos (show true = true from rfl), if_pos (show true = true from rfl)]
theorem whF (o : FlU u c rg M) (hb : b < 4) : M.1 11 (11 + b) 0 = Int32.ofInt (if b < 2 then 32 else 64) ∧ M.1 12 (11 + b) 0 = bz (b % 2 = 0) := (o.2.2.2.2.2.1.2 b hb).2
theorem cf_u (o : FlU u c rg M) {fl : Nat} (h : Cf c S fl M N) : FlU u c rg N := flU_c o h
theorem r125 (o : FlU u c rg M) (hb : b < 4) (far : Prop) (ng : Bool) {n : Nat} (hn : n ≤ 3) :
    ∃ N, (HX64_round_125 (11 + b) (c 0) (c 12) (bz far) (bz (ng = true)) (nI n) M ∧ GX64_round_125 (11 + b) (c 0) (c 12) (bz far) (bz (ng = true)) (nI n) M =
      (fi (far ∨ lim b ng < wv M (c 4)) (tlv b (lN (lim b ng)) ng) (tlv b (lN (wv M (c 4))) ng), N)) ∧ Cf c S (fi (far ∨ lim b ng < wv M (c 4)) 16 (fi (n = 0) 0 1)) M N := by
  obtain ⟨w1, w2⟩ := whF o hb
  have L := lim_le hb ng
  obtain ⟨-, l0', -, -⟩ := o.1.2.2.2.1 0 (by decide)
  have l0'' : M.2.2 117 (c 0) 0 = c 4 := l0'
  have K165 : far ∨ lim b ng < wv M (c 4) → ∃ N, (HX64_round_165 (11 + b) (c 12) (bz (ng = true)) (lN (lim b ng)) M ∧ GX64_round_165 (11 + b) (c 12) (bz (ng = true)) (lN (lim b ng)) M = (fi (far ∨ lim b ng < wv M (c 4)) (tlv b (lN (lim b ng)) ng) (tlv b (lN (wv M (c 4))) ng), N)) ∧ Cf c S (fi (far ∨ lim b ng < wv M (c 4)) 16 (fi (n = 0) 0 1)) M N := fun q => by
    obtain ⟨h, f⟩ := cf_f (S := S) (fl := 16) o.1 (by decide)
    have o1 := flU_c o f
    obtain ⟨x1, x2⟩ := whF o1 hb
    unfold HX64_round_165 GX64_round_165
    dsimp only
    rw [fi_pos q, fi_pos q]
    refine ⟨GX60_raise (c 12) (nI 16) M, ⟨⟨h, trivial⟩, ?_⟩, f⟩
    rw [show Int32.ofInt 16 = nI 16 from rfl, X64_told hb x1]
  have K191 : ∀ fl, fl < 4294967296 → ¬ (far ∨ lim b ng < wv M (c 4)) → fl = fi (n = 0) 0 1 → ∃ N, (HX64_round_191 (11 + b) (c 0) (bz (ng = true)) (c 12) (nI fl) M ∧ GX64_round_191 (11 + b) (c 0) (bz (ng = true)) (c 12) (nI fl) M = (fi (far ∨ lim b ng < wv M (c 4)) (tlv b (lN (lim b ng)) ng) (tlv b (lN (wv M (c 4))) ng), N)) ∧ Cf c S (fi (far ∨ lim b ng < wv M (c 4)) 16 (fi (n = 0) 0 1)) M N := fun fl hf q e => by
    obtain ⟨h, f⟩ := cf_f (S := S) (fl := fl) o.1 hf
    obtain ⟨h', f'⟩ := cf_f (S := fun _ => False) (fl := fl) o.1 hf
    have o1 := flU_c o f
    obtain ⟨x1, x2⟩ := whF o1 hb
    have e120 : (GX60_raise (c 12) (nI fl) M).2.1 120 (c 4) 0 = M.2.1 120 (c 4) 0 := f'.1.2.2.2 120 (c 4) 0 (fun z => by omega) (fun z => by
      rcases z.2 with ⟨k, -, z1, -⟩ | z1 | z1
      · exact z1
      · exact o.1.2.2.1 4 (by decide) 8 (by decide) (by decide) z1
      · exact o.1.2.2.1 4 (by decide) 9 (by decide) (by decide) z1)
    have e117 : (GX60_raise (c 12) (nI fl) M).2.2 117 (c 0) 0 = c 4 := (o1.1.2.2.2.1 0 (by decide)).2.1
    unfold HX64_round_191 GX64_round_191
    dsimp only
    rw [fi_neg q, fi_neg q, ← e]
    refine ⟨GX60_raise (c 12) (nI fl) M, ⟨⟨h, trivial⟩, ?_⟩, f⟩
    have lw : wv M (c 4) < 18446744073709551616 := by
      have : ¬ lim b ng < wv M (c 4) := fun z => q (Or.inr z)
      omega
    rw [e117, e120, X64_told hb x1, wv_l, Nat.mod_eq_of_lt lw]
  unfold HX64_round_125 GX64_round_125
  rw [X64_limit hb w1 w2]
  dsimp only
  rw [l0'', X108_isLess, fi_bz]
  dsimp only
  rw [fi_bz, l_big L, propext (l0 _)]
  have hi : (ul (M.2.1 119 (c 4) 0) = 0) = (wv M (c 4) < 18446744073709551616) := propext (by
    have := ul_lt (M.2.1 120 (c 4) 0)
    unfold wv
    omega)
  rw [hi]
  have cn : (nI n = 0) = (n = 0) := propext (ni_i (b := 0) (by omega) (by decide))
  rw [cn]
  by_cases qf : far
  · rw [fi_pos qf, bz_t qf]
    obtain ⟨N, ⟨h, e⟩, r⟩ := K165 (Or.inl qf)
    exact ⟨N, ⟨⟨fun y => absurd y (by decide), fun _ => h⟩, e⟩, r⟩
  · rw [fi_neg qf, bz_f qf]
    by_cases q1 : wv M (c 4) < 18446744073709551616
    · rw [fi_pos q1]
      have eul : ul (M.2.1 120 (c 4) 0) = wv M (c 4) := by rw [wv_l, Nat.mod_eq_of_lt q1, l_big q1]
      rw [eul]
      by_cases q2 : lim b ng < wv M (c 4)
      · rw [fi_pos q2, bz_t q2]
        obtain ⟨N, ⟨h, e⟩, r⟩ := K165 (Or.inr q2)
        exact ⟨N, ⟨⟨fun _ => ⟨fun _ => ⟨fun y => absurd y (by decide), fun _ => h⟩, fun y => absurd q1 y⟩, fun y => absurd rfl y⟩, e⟩, r⟩
      · rw [fi_neg q2, bz_f q2]
        have nq : ¬ (far ∨ lim b ng < wv M (c 4)) := fun y => y.elim qf q2
        by_cases q3 : n = 0
        · rw [fi_pos q3]
          obtain ⟨N, ⟨h, e⟩, r⟩ := K191 0 (by decide) nq (by rw [fi_pos q3])
          exact ⟨N, ⟨⟨fun _ => ⟨fun _ => ⟨fun _ => ⟨fun _ => h, fun y => absurd q3 y⟩, fun y => absurd rfl y⟩, fun y => absurd q1 y⟩, fun y => absurd rfl y⟩, e⟩, r⟩
        · rw [fi_neg q3]
          obtain ⟨N, ⟨h, e⟩, r⟩ := K191 1 (by decide) nq (by rw [fi_neg q3])
          exact ⟨N, ⟨⟨fun _ => ⟨fun _ => ⟨fun _ => ⟨fun y => absurd y q3, fun _ => h⟩, fun y => absurd rfl y⟩, fun y => absurd q1 y⟩, fun y => absurd rfl y⟩, e⟩, r⟩
    · rw [fi_neg q1]
      obtain ⟨N, ⟨h, e⟩, r⟩ := K165 (Or.inr (by omega))
      exact ⟨N, ⟨⟨fun _ => ⟨fun y => absurd y q1, fun _ => h⟩, fun y => absurd rfl y⟩, e⟩, r⟩
/-- an integer out of what is taken apart -/
theorem X64_round (o : FlU u c rg M) (hb : b < 4) (hm : md ≤ 4) (va : TkV c 0 M X.1 X.2.1) (vn : X.1 ≤ 1 → TkN c 0 M X.2.2.2 X.2.2.1) (gX : gdU X) (hS : S 0) :
    ∃ N, (HX64_round (11 + b) (c 0) (1 + md) (c 12) M ∧ GX64_round (11 + b) (c 0) (1 + md) (c 12) M = ((toI b md X).1, N)) ∧ Cf c S (toI b md X).2 M N := by
  have l0'' : M.2.2 117 (c 0) 0 = c 4 := (o.1.2.2.2.1 0 (by decide)).2.1
  have bX := gdb gX
  have pX := gX.2.2.1
  have R66 : ∀ ng : Bool, ng = (X.2.1 && decide (X.1 ≤ 2)) → ∃ N, (HX64_round_66 (11 + b) (c 0) (1 + md) (c 12) (bz (toF X)) (bz (ng = true)) M ∧ GX64_round_66 (11 + b) (c 0) (1 + md) (c 12) (bz (toF X)) (bz (ng = true)) M = ((toI b md X).1, N)) ∧ Cf c S (toI b md X).2 M N := fun ng hng => by
    unfold HX64_round_66 GX64_round_66
    rw [X71_is1 va]
    dsimp only
    rw [fi_bz, l0'']
    by_cases q1 : X.1 = 1
    · rw [fi_pos q1, bz_t q1, fi_bz]
      by_cases qf : toF X
      · rw [fi_pos qf, bz_t qf]
        obtain ⟨N, ⟨h, e⟩, r⟩ := r125 (S := S) o hb (toF X) ng (n := 0) (by decide)
        rw [fi_pos (Or.inl qf)] at e r
        rw [bz_t qf] at h e
        unfold toI
        rw [fi_pos (show toB b md X from Or.inl qf), fi_pos (show toB b md X from Or.inl qf), ← hng]
        exact ⟨N, ⟨⟨fun y => absurd y (by decide), fun _ => ⟨fun y => absurd y (by decide), fun _ => h⟩⟩, e⟩, r⟩
      · rw [fi_neg qf, bz_f qf]
        have hn := vn (by omega)
        have h65 : X.2.2.2 + (bln X.2.2.1 : Int) ≤ 65 := Classical.byContradiction (fun y => qf (Or.inr ⟨q1, by omega⟩))
        rw [hn.1, iz_n]
        have hw : wv M (c 4) = X.2.2.1 := hn.2
        have sV : X.2.2.1 < 2 ^ 54 := gX.2.1
        have hb2 : -X.2.2.2 ≤ 1 → X.2.2.1 * 2 ^ (2 - -X.2.2.2).toNat < w128 := fun y => by
          have a := bln_lt X.2.2.1
          have e := Nat.mul_lt_mul_of_pos_right a (Nat.two_pow_pos (2 - -X.2.2.2).toNat)
          rw [← Nat.pow_add] at e
          have f : 2 ^ (bln X.2.2.1 + (2 - -X.2.2.2).toNat) ≤ 2 ^ 127 := Nat.pow_le_pow_right (by decide) (by omega)
          have g : (2 : Nat) ^ 127 < w128 := by rw [w128_p]; decide
          omega
        have hc : cuU X.2.2.1 (-X.2.2.2) < 2 ^ 65 := cuU_lt (by omega)
        have p65 : (2 : Nat) ^ 65 = 36893488147419103232 := by decide
        obtain ⟨g1, g2, g3, g4⟩ := cg (M := M) (sg := ng) (w := c 4) hm (o.2.1 md (by omega)).1 hw (z := -X.2.2.2) (by omega) hb2 (fun _ => by rw [w128_e]; omega)
        rw [g1]
        dsimp only
        have l4 : (wSF (c 4) (cuU X.2.2.1 (-X.2.2.2)) M).2.2 117 (c 0) 0 = c 4 := l0''
        rw [l4, g2]
        dsimp only
        rw [g3 _ (show (wSF (c 4) (cuU X.2.2.1 (-X.2.2.2)) M).1 10 (1 + md) 0 = nI md from (o.2.1 md (by omega)).1)]
        dsimp only
        rw [fi_bz, l4]
        have cW : ∀ V : Nat, Cf c S 0 M (wSF (c 4) V M) := fun V => cf_W (S := S) (k := 0) o.1 (by decide) V hS
        have fin' : ∀ V : Nat, V < 36893488147419103234 → V = rnU md ng X.2.2.1 false (-X.2.2.2) → ∃ N, (HX64_round_125 (11 + b) (c 0) (c 12) (Int32.ofInt 0) (bz (ng = true)) (nI (cuC X.2.2.1 false (-X.2.2.2))) (wSF (c 4) V M) ∧ GX64_round_125 (11 + b) (c 0) (c 12) (Int32.ofInt 0) (bz (ng = true)) (nI (cuC X.2.2.1 false (-X.2.2.2))) (wSF (c 4) V M) = ((toI b md X).1, N)) ∧ Cf c S (toI b md X).2 M N := fun V hV eV => by
          have hC := (cuC_h (A := X.2.2.1) (mo := false) (d := -X.2.2.2)).2.2
          obtain ⟨N, ⟨h, e⟩, r⟩ := r125 (S := S) (flU_c o (cW V)) hb (toF X) ng (n := cuC X.2.2.1 false (-X.2.2.2)) hC
          rw [wv_wS (by rw [w128_e]; omega)] at e r
          rw [bz_f qf] at h e
          have eB : (toF X ∨ lim b ng < V) = toB b md X := by
            unfold toB toU
            rw [if_pos q1, ← hng, ← eV]
          rw [eB] at e r
          unfold toI
          have eU : toU md X = V := by
            unfold toU
            rw [if_pos q1, ← hng, ← eV]
          have eC : toC X = cuC X.2.2.1 false (-X.2.2.2) := by
            unfold toC
            rw [if_pos q1]
          rw [eU, eC, ← hng]
          exact ⟨N, ⟨h, e⟩, cf_0t (cW V) r⟩
        unfold rnU at fin'
        by_cases q3 : grw md ng (decide (cuU X.2.2.1 (-X.2.2.2) % 2 = 1)) (cuC X.2.2.1 false (-X.2.2.2)) = true
        · rw [fi_pos q3, bz_t q3]
          rw [fi_pos q3] at g4
          unfold rnU at g4
          rw [if_pos q3] at g4 fin'
          rw [g4]
          obtain ⟨N, ⟨h, e⟩, r⟩ := fin' (cuU X.2.2.1 (-X.2.2.2) + 1) (by omega) rfl
          exact ⟨N, ⟨⟨fun y => absurd y (by decide), fun _ => ⟨fun _ => ⟨fun y => absurd y (by decide), fun _ => h⟩, fun y => absurd rfl y⟩⟩, e⟩, r⟩
        · rw [fi_neg q3, bz_f q3]
          rw [if_neg q3] at fin'
          obtain ⟨N, ⟨h, e⟩, r⟩ := fin' (cuU X.2.2.1 (-X.2.2.2)) (by omega) rfl
          exact ⟨N, ⟨⟨fun y => absurd y (by decide), fun _ => ⟨fun _ => ⟨fun _ => h, fun y => absurd rfl y⟩, fun y => absurd rfl y⟩⟩, e⟩, r⟩
    · rw [fi_neg q1, bz_f q1]
      obtain ⟨N, ⟨h, e⟩, r⟩ := r125 (S := S) o hb (toF X) ng (n := 0) (by decide)
      have eU : toU md X = 0 := by
        unfold toU
        rw [if_neg q1]
      have eC : toC X = 0 := by
        unfold toC
        rw [if_neg q1]
      have eB : (toF X ∨ lim b ng < wv M (c 4)) = toB b md X := by
        unfold toB
        rw [eU, ← hng]
        by_cases y : X.1 = 0
        · rw [show wv M (c 4) = 0 from ((vn (by omega)).2).trans ((gX.2.2.2 (by omega)).mpr y)]
        · have : toF X := Or.inl (by omega)
          exact propext ⟨fun _ => Or.inl this, fun _ => Or.inl this⟩
      have eT : fi (toB b md X) (tlv b (lN (lim b ng)) ng) (tlv b (lN (wv M (c 4))) ng) = (toI b md X).1 := by
        unfold toI
        dsimp only
        rw [eU, ← hng]
        by_cases y : X.1 = 0
        · rw [show wv M (c 4) = 0 from ((vn (by omega)).2).trans ((gX.2.2.2 (by omega)).mpr y)]
        · have : toB b md X := Or.inl (Or.inl (by omega))
          rw [fi_pos this, fi_pos this]
      rw [eB] at e r
      rw [eT] at e
      have eF : (toI b md X).2 = fi (toB b md X) 16 (fi (0 = 0) 0 1) := by
        unfold toI
        dsimp only
        rw [eC]
      rw [eF]
      exact ⟨N, ⟨⟨fun _ => h, fun y => absurd rfl y⟩, e⟩, r⟩
  have R42 : ∃ N, (HX64_round_42 (11 + b) (c 0) (1 + md) (c 12) (bz (toF X)) M ∧ GX64_round_42 (11 + b) (c 0) (1 + md) (c 12) (bz (toF X)) M = ((toI b md X).1, N)) ∧ Cf c S (toI b md X).2 M N := by
    unfold HX64_round_42 GX64_round_42 HX64_round_65 GX64_round_65
    dsimp only
    rw [va.2, va.1, X72_isNone gX.1]
    dsimp only
    rw [fi_bz, fi_bz]
    have k0 : X.2.1 = false ∨ 3 ≤ X.1 → false = (X.2.1 && decide (X.1 ≤ 2)) := fun y => by
      rcases y with y | y
      · rw [y]
        rfl
      · rw [decide_eq_false (show ¬ X.1 ≤ 2 by omega), Bool.and_false]
    by_cases q : X.2.1 = true
    · rw [fi_pos q, bz_t q]
      by_cases q3 : 3 ≤ X.1
      · rw [fi_pos q3, bz_t q3]
        obtain ⟨N, ⟨h, e⟩, r⟩ := R66 false (k0 (Or.inr q3))
        rw [bz_f (show ¬ false = true by decide)] at h e
        exact ⟨N, ⟨⟨fun y => absurd y (by decide), fun _ => ⟨fun y => absurd y (by decide), fun _ => h⟩⟩, e⟩, r⟩
      · rw [fi_neg q3, bz_f q3]
        obtain ⟨N, ⟨h, e⟩, r⟩ := R66 true (by rw [q, decide_eq_true (show X.1 ≤ 2 by omega)]; rfl)
        rw [bz_t rfl] at h e
        exact ⟨N, ⟨⟨fun y => absurd y (by decide), fun _ => ⟨fun _ => h, fun y => absurd rfl y⟩⟩, e⟩, r⟩
    · rw [fi_neg q, bz_f q]
      obtain ⟨N, ⟨h, e⟩, r⟩ := R66 false (k0 (Or.inl (Bool.eq_false_iff.mpr q)))
      rw [bz_f (show ¬ false = true by decide)] at h e
      exact ⟨N, ⟨⟨fun _ => h, fun y => absurd rfl y⟩, e⟩, r⟩
  obtain ⟨N, ⟨h, e⟩, r⟩ := R42
  refine ⟨N, ?_, r⟩
  unfold HX64_round HX64_round_0 GX64_round GX64_round_0 HX64_round_41 GX64_round_41 HX64_round_37 GX64_round_37
  rw [X71_is0 va]
  dsimp only
  rw [X71_is1 va]
  dsimp only
  rw [fi_bz, fi_bz, l0'']
  obtain ⟨hl, el⟩ := X62_length (w := c 4) o.1.1
  by_cases q0 : X.1 = 0
  · rw [fi_pos q0, bz_t q0]
    have nf : ¬ toF X := fun y => y.elim (fun z => by omega) (fun z => by omega)
    rw [bz_f nf] at h e
    exact ⟨⟨fun y => absurd y (by decide), fun _ => h⟩, e⟩
  · rw [fi_neg q0, bz_f q0]
    by_cases q1 : X.1 = 1
    · rw [fi_pos q1, bz_t q1, el]
      dsimp only
      have hn := vn (by omega)
      have hw : wv M (c 4) = X.2.2.1 := hn.2
      rw [hn.1, hw, iz_nI, iz_a, propext (iz_le (a := X.2.2.2 + (bln X.2.2.1 : Int)) (b := 65) (by omega))]
      by_cases q2 : X.2.2.2 + (bln X.2.2.1 : Int) ≤ 65
      · rw [fi_pos q2]
        have nf : ¬ toF X := fun y => y.elim (fun z => by omega) (fun z => by omega)
        rw [bz_f nf] at h e
        exact ⟨⟨fun _ => ⟨fun y => absurd y (by decide), fun _ => ⟨hl, fun _ => h, fun y => absurd q2 y⟩⟩, fun y => absurd rfl y⟩, e⟩
      · rw [fi_neg q2]
        have nf : toF X := Or.inr ⟨q1, by omega⟩
        rw [bz_t nf] at h e
        exact ⟨⟨fun _ => ⟨fun y => absurd y (by decide), fun _ => ⟨hl, fun y => absurd y q2, fun _ => h⟩⟩, fun y => absurd rfl y⟩, e⟩
    · rw [fi_neg q1, bz_f q1]
      have nf : toF X := Or.inl (by omega)
      rw [bz_t nf] at h e
      exact ⟨⟨fun _ => ⟨fun _ => h, fun y => absurd rfl y⟩, fun y => absurd rfl y⟩, e⟩
end Iw
