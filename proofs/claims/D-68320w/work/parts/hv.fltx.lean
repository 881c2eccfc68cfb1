/-! floats: the component's unit reckons -/
set_option maxRecDepth 100000
theorem le5 {p q r : Prop} [Decidable p] [Decidable q] [Decidable r] : (if p then 5 else if q then 0 else if r then 3 else 1) ≤ 5 := by
  split
  · decide
  · split
    · decide
    · split <;> decide
theorem rnd_le (t md : Nat) (sg : Bool) (N : Nat) (sc : Int) (mo : Bool) : (rnd t md sg N sc mo).2 ≤ 5 := le5
theorem fin_le (t md : Nat) (R : Rt) : (finF t md R).2 ≤ 5 := by
  unfold finF
  split
  · exact Nat.zero_le _
  · split
    · exact rnd_le _ _ _ _ _ _
    · split <;> exact Nat.zero_le _
theorem or_lt32 {a b : Nat} (ha : a < 4294967296) (hb : b < 4294967296) : a ||| b < 4294967296 := Nat.or_lt_two_pow (n := 32) ha hb
theorem sFl_0 (s : Fs) : sFl 0 s = s := by
  unfold sFl
  rw [or_n0, bz_f (c := (0 : Nat) ≠ 0) (fun q => q rfl)]
  show (s.1, s.2.1, s.2.2.1, s.2.2.2.1 ||| nI 0, s.2.2.2.2) = s
  rw [or_n0]
theorem sFl_t {f1 f2 : Nat} (s : Fs) (a : f1 < 4294967296) (b : f2 < 4294967296) : sFl f2 (sFl f1 s) = sFl (f1 ||| f2) s := by
  unfold sFl
  dsimp only
  rw [or_as, or_nn a b, or_as, bz_or, show (f1 ≠ 0 ∨ f2 ≠ 0) = (f1 ||| f2 ≠ 0) from propext (by
    have := Nat.or_eq_zero_iff (n := f1) (m := f2)
    omega)]
def opR (k md : Nat) (X Y : UU) : Rt × Nat := if k < 2 then addR md X (Y.1, Y.2.1 ^^ decide (k = 1), Y.2.2) else if k = 2 then mulR X Y else divR X Y
theorem addR_le (md : Nat) (X Y : UU) : (addR md X Y).2 ≤ 16 := by
  unfold addR
  split
  · exact Nat.le_refl _
  · split
    · exact Nat.zero_le _
    · split <;> exact Nat.zero_le _
theorem opR_le (k md : Nat) (X Y : UU) : (opR k md X Y).2 ≤ 16 := by
  unfold opR
  split
  · exact addR_le _ _ _
  · split
    · unfold mulR
      split
      · exact Nat.le_refl _
      · split
        · exact Nat.zero_le _
        · split <;> exact Nat.zero_le _
    · unfold divR
      split
      · exact Nat.le_refl _
      · split
        · exact Nat.zero_le _
        · split
          · exact (by decide : (8 : Nat) ≤ 16)
          · split <;> exact Nat.zero_le _
theorem rootR_le (X : UU) : (rootR X).2 ≤ 16 := by
  unfold rootR
  split
  · exact Nat.zero_le _
  · split
    · exact Nat.zero_le _
    · split
      · exact Nat.le_refl _
      · exact Nat.zero_le _
theorem nnR_le {a b : Nat} {R : Rt × Nat} (h : R.2 ≤ 16) : (nnR a b R).2 ≤ 16 := by
  unfold nnR
  split
  · dsimp only
    split <;> omega
  · exact h
theorem op2_e (t md a b : Nat) (R : Rt × Nat) : ((finF t md (nnR a b R).1).1, (nnR a b R).2 ||| (finF t md (nnR a b R).1).2) = opB2 t md a b R := by
  unfold nnR opB2
  by_cases q : 3 ≤ a ∨ 3 ≤ b
  · rw [if_pos q, if_pos q]
    dsimp only
    rw [fin_3, Nat.or_zero]
  · rw [if_neg q, if_neg q]
theorem op1_e (t md a : Nat) (R : Rt × Nat) : ((finF t md (nnR a a R).1).1, (nnR a a R).2 ||| (finF t md (nnR a a R).1).2) = opB1 t md a R := by
  unfold nnR opB1
  by_cases q : 3 ≤ a
  · rw [if_pos (Or.inl q), if_pos q]
    dsimp only
    rw [fin_3, Nat.or_zero, ite_c (show a = 4 ∨ a = 4 ↔ a = 4 from ⟨fun y => y.elim id id, Or.inl⟩)]
  · rw [if_neg (fun y => y.elim q q), if_neg q]
theorem gW_g {X : UU} (g : gdU X) : gW X := by
  obtain ⟨g1, g2, g3, g4⟩ := g
  refine ⟨g1, fun y => ⟨fun z => ?_, Nat.le_trans (bln_le g2) (by decide), by omega, by omega⟩, fun y => (g4 (by omega)).mpr y⟩
  have := (g4 (by omega)).mp z
  omega
section Rk
variable {u i j rg k md t fl f1 op : Nat} {c : Nat → Nat} {S : Nat → Prop} {M N K : FM} {s : Fs} {X Y : UU} {w : Int32}
theorem e105 (o : FlC u c M) : M.2.2 105 u 0 = c 0 ∧ M.2.2 106 u 0 = c 1 ∧ M.2.2 107 u 0 = c 2 ∧ M.2.2 108 u 0 = c 3 ∧ M.2.2 94 u 0 = c 12 :=
  ⟨(o.2.2.2.1 0 (by decide)).1, (o.2.2.2.1 1 (by decide)).1, (o.2.2.2.1 2 (by decide)).1, (o.2.2.2.1 3 (by decide)).1, o.2.2.2.2.2.1⟩
/-- sums and differences, from registers -/
theorem X66_works (o : FlC u c M) (hi : i < 3) (hj : j < 3) (hij : i ≠ j) (hS : S 3) (hSi : S i) (hSj : S j) {x : Nat} {tn : Bool} (h113 : M.1 113 op 0 = bz (tn = true)) (va : Tk c i M X) (vb : Tk c j M Y) (hX : X.1 ≤ 2) (hY : Y.1 ≤ 2) (gX : gW X) (gY : gW Y) :
    ∃ N, (HX66_work op (c i) (c j) (1 + md) (c 12) (c 3) M ∧ GX66_work op (c i) (c j) (1 + md) (c 12) (c 3) M = N) ∧ Cf c S (addR md X (Y.1, Y.2.1 ^^ tn, Y.2.2)).2 M N ∧ Ou c 3 md N (addR md X (Y.1, Y.2.1 ^^ tn, Y.2.2)).1 := by
  have a1 := cf_I5 (S := S) o (show j < 4 by omega) ((Y.2.1 ^^ tn) = true) hSj
  have a1' := cf_I5 (S := fun k => k = j) o (show j < 4 by omega) ((Y.2.1 ^^ tn) = true) rfl
  have o1 := cf_o o a1
  have va1 := tk_k o a1' (show i < 4 by omega) hij va
  have vb1 : Tk c j (fm_sI M 115 (c j) 0 (bz ((Y.2.1 ^^ tn) = true))) (Y.1, Y.2.1 ^^ tn, Y.2.2) := ⟨⟨vb.1.1, sI_at _ _ _ _ _⟩, fun y => ⟨(oI (fun q => by omega)).trans (vb.2 y).1, (vb.2 y).2⟩⟩
  obtain ⟨N, ⟨h, e⟩, b, r⟩ := X66_add (md := md) o1 hi hj hij hS hSi hSj va1 vb1 hX hY gX gY
  have eH : HX66_work op (c i) (c j) (1 + md) (c 12) (c 3) M = (HX66_add (c i) (c j) (1 + md) (c 12) (c 3) (fm_sI M 115 (c j) 0 (M.1 115 (c j) 0 ^^^ M.1 113 op 0)) ∧ True) := rfl
  have eG : GX66_work op (c i) (c j) (1 + md) (c 12) (c 3) M = GX66_add (c i) (c j) (1 + md) (c 12) (c 3) (fm_sI M 115 (c j) 0 (M.1 115 (c j) 0 ^^^ M.1 113 op 0)) := rfl
  rw [eH, eG, vb.1.2, h113, bz_x]
  exact ⟨N, ⟨⟨h, trivial⟩, e⟩, cf_0t a1 b, r⟩
/-- one of the four operations -/
theorem X65_runk (o : FlU u c rg M) (hk : k < 4) (hi : i < 3) (hj : j < 3) (hij : i ≠ j) (hS : S 3) (hSi : S i) (hSj : S j) (va : Tk c i M X) (vb : Tk c j M Y) (gX : gdU X) (gY : gdU Y) :
    ∃ N, (HX65_run (M.2.2 3 (M.2.2 101 u 0) k) (c i) (c j) (1 + md) (c 12) (c 3) M ∧ GX65_run (M.2.2 3 (M.2.2 101 u 0) k) (c i) (c j) (1 + md) (c 12) (c 3) M = N) ∧ Cf c S (nnR X.1 Y.1 (opR k md X Y)).2 M N ∧ Ou c 3 md N (nnR X.1 Y.1 (opR k md X Y)).1 := by
  refine X65_run (X := X) (Y := Y) o.1 hS (by omega) (by omega) va.1 vb.1 gX.1 gY.1 (fun N => Ou c 3 md N (nnR X.1 Y.1 (opR k md X Y)).1) (fun N h q => ?_) (fun q => ?_)
  · unfold nnR
    rw [if_pos q]
    exact ou_k h (by decide) (by decide) (fun t _ => rfl)
  · unfold nnR
    rw [if_neg q]
    obtain ⟨o1, o2, o3, o4⟩ := o.2.2.2.2.2.2.1
    have hX : X.1 ≤ 2 := by omega
    have hY : Y.1 ≤ 2 := by omega
    rcases (show k < 2 ∨ k = 2 ∨ k = 3 by omega) with y | y | y
    · obtain ⟨t1, t2⟩ := o2 k y
      obtain ⟨N, ⟨h, e⟩, r⟩ := X66_works (x := 0) (md := md) (tn := decide (k = 1)) o.1 hi hj hij hS hSi hSj (by rw [t2]; exact bz_c (by simp)) va vb hX hY (gW_g gX) (gW_g gY)
      unfold opR
      rw [if_pos y]
      exact ⟨N, ⟨(wk_38 t1).1 h, (wk_38 t1).2.trans e⟩, r⟩
    · subst y
      obtain ⟨N, ⟨h, e⟩, b, r1, r2, r3⟩ := X67_work (op := M.2.2 3 (M.2.2 101 u 0) 2) (m := 1 + md) o.1 hS hi hj va vb gX gY hX hY
      unfold opR
      rw [if_neg (by decide), if_pos rfl]
      refine ⟨N, ⟨(wk_34 o3).1 h, (wk_34 o3).2.trans e⟩, b, exU (mulR X Y).1, r1, r3.1, fun z => ?_, fun t _ => ?_⟩
      · obtain ⟨z1, z2, z3, z4⟩ := r3.2.1 z
        exact ⟨z1, by omega, by omega, by omega⟩
      · rw [← r2]
        rfl
    · subst y
      obtain ⟨N, ⟨h, e⟩, b, r⟩ := X68_work (md := md) (op := M.2.2 3 (M.2.2 101 u 0) 3) (m := 1 + md) o.1 hi hj hij hS hSi hSj va vb hX hY gX gY
      unfold opR
      rw [if_neg (by decide), if_neg (by decide)]
      exact ⟨N, ⟨(wk_35 o4).1 h, (wk_35 o4).2.trans e⟩, b, r⟩
/-- the root; the same -/
theorem X65_runr (o : FlU u c rg M) (hi : i < 3) (hS : S 3) (hSi : S i) (va : Tk c i M X) (gX : gdU X) :
    ∃ N, (HX65_run (M.2.2 103 u 0) (c i) (c i) (1 + md) (c 12) (c 3) M ∧ GX65_run (M.2.2 103 u 0) (c i) (c i) (1 + md) (c 12) (c 3) M = N) ∧ Cf c S (nnR X.1 X.1 (rootR X)).2 M N ∧ Ou c 3 md N (nnR X.1 X.1 (rootR X)).1 := by
  refine X65_run (X := X) (Y := X) o.1 hS (by omega) (by omega) va.1 va.1 gX.1 gX.1 (fun N => Ou c 3 md N (nnR X.1 X.1 (rootR X)).1) (fun N h q => ?_) (fun q => ?_)
  · unfold nnR
    rw [if_pos q]
    exact ou_k h (by decide) (by decide) (fun t _ => rfl)
  · unfold nnR
    rw [if_neg q]
    have t1 := o.2.2.2.2.2.2.2.2.1
    obtain ⟨N, ⟨h, e⟩, b, r⟩ := X69_work (md := md) (op := M.2.2 103 u 0) (x := c i) (m := 1 + md) o.1 hi hS hSi va (by omega) gX
    exact ⟨N, ⟨(wk_36 t1).1 h, (wk_36 t1).2.trans e⟩, b, r⟩
theorem X65_runs (o : FlU u c rg M) (hi : i < 3) (hS : S 3) (va : Tk c i M X) (gX : gdU X) :
    ∃ N, (HX65_run (M.2.2 104 u 0) (c i) (c i) (1 + md) (c 12) (c 3) M ∧ GX65_run (M.2.2 104 u 0) (c i) (c i) (1 + md) (c 12) (c 3) M = N) ∧ Cf c S (nnR X.1 X.1 (othR X)).2 M N ∧ Ou c 3 md N (nnR X.1 X.1 (othR X)).1 := by
  refine X65_run (X := X) (Y := X) o.1 hS (by omega) (by omega) va.1 va.1 gX.1 gX.1 (fun N => Ou c 3 md N (nnR X.1 X.1 (othR X)).1) (fun N h q => ?_) (fun q => ?_)
  · unfold nnR
    rw [if_pos q]
    exact ou_k h (by decide) (by decide) (fun t _ => rfl)
  · unfold nnR
    rw [if_neg q]
    have t1 := o.2.2.2.2.2.2.2.2.2
    obtain ⟨b, r⟩ := X70_work (op := M.2.2 104 u 0) (x := c i) (m := 1 + md) o.1 hS hi va gX.1
    refine ⟨_, ⟨(wk_37 t1).1, (wk_37 t1).2⟩, b, X, r, gX.1, fun z => ?_, fun t _ => rfl⟩
    obtain ⟨z1, z2, z3, z4⟩ := (gW_g gX).2.1 z
    exact ⟨z1, by omega, by omega, by omega⟩
/-- what came out is written -/
theorem X59_tail (o : FlU u c rg K) (v : VFc u c rg K (sFl f1 s)) (hf : f1 < 4294967296) (ht : t ≤ 1) (hm : md ≤ 4) (hk : k < 4) {R : Rt} (hR : Ou c k md K R) (w : Int32) :
    ∃ P N, (HX61_put (c (10 + t)) (c k) (1 + md) (c 12) K ∧ GX61_put (c (10 + t)) (c k) (1 + md) (c 12) K = (lN (finF t md R).1, P)) ∧ (HX59_write u w (c (10 + t)) (lN (finF t md R).1) P ∧ GX59_write u w (c (10 + t)) (lN (finF t md R).1) P = (Int32.ofInt 0, N)) ∧
      FrU u c rg K N ∧ VFc u c rg N (sPut (pt w 7 5) (bx t (lN (finF t md R).1)) (sFl (f1 ||| (finF t md R).2) s)) := by
  obtain ⟨P, hp, cp⟩ := X61_put (S := fun _ => True) o.1 o.2.1 hk ht hm trivial hR
  have o1 := flU_c o cp
  have v1 := vFc_c o v cp
  have fl := fin_le t md R
  rw [sFl_t s hf (by omega)] at v1
  obtain ⟨h, N, e, r, x⟩ := X59_write o1 v1 ht w (lN (finF t md R).1)
  exact ⟨P, N, hp, ⟨h, e⟩, frU_t (frU_c cp.1) r, x⟩
end Rk
