/-! floats: the component's unit: signs, classes -/
set_option maxRecDepth 100000
def clN (X : UU) (sm : Bool) : Nat := if X.1 = 4 then 8 else if X.1 = 3 then 9 else if X.2.1 = true then 7 - (if X.1 = 2 then 7 else if X.1 = 0 then 4 else if sm = true then 5 else 6) else (if X.1 = 2 then 7 else if X.1 = 0 then 4 else if sm = true then 5 else 6)
/-- which sign comes out -/
def sgJ (t r : Nat) (x y : Int64) : Bool := if r = 0 then uS' t y else if r = 1 then !uS' t y else uS' t x ^^ uS' t y
section Sg
variable {u rg b md t : Nat} {c : Nat → Nat} {M N K : FM} {s : Fs} {w : Int32} {X : UU} {S : Nat → Prop}
theorem bO_lt (v : Int64) : ul (bO 0 v) < 4294967296 := by
  unfold bO
  rw [fi_neg (show ¬ (0 : Nat) = 1 by decide)]
  by_cases q : ul v / 4294967296 = 4294967295
  · rw [fi_pos q, ul_and, show ul (Int64.ofInt 4294967295) = 2 ^ 32 - 1 by decide, Nat.and_two_pow_sub_one_eq_mod]
    exact Nat.mod_lt _ (by decide)
  · rw [fi_neg q]
    decide
theorem msk_s {x : Int64} (ht : t ≤ 1) (hx : t = 0 → ul x < 4294967296) : ul (x &&& (lN (2 ^ fS t) ^^^ Int64.ofInt (-1))) = ul x % 2 ^ fS t := by
  have hl := ul_lt x
  have e : ul (lN (2 ^ fS t) ^^^ Int64.ofInt (-1)) = if t = 0 then 18446744071562067967 else 9223372036854775807 := by
    rcases (show t = 0 ∨ t = 1 by omega) with q | q <;> subst q <;> decide
  rw [ul_and, e]
  rcases (show t = 0 ∨ t = 1 by omega) with q | q
  · subst q
    have h := hx rfl
    rw [if_pos rfl, show fS 0 = 31 from rfl]
    have e2 : ul x = (ul x / 2147483648) <<< 31 ||| ul x % 2147483648 := by
      rw [← Nat.shiftLeft_add_eq_or_of_lt (Nat.mod_lt _ (by decide)), Nat.shiftLeft_eq]
      omega
    have e3 : (18446744071562067967 : Nat) = 8589934590 <<< 31 ||| (2 ^ 31 - 1) := by decide
    apply Nat.eq_of_testBit_eq
    intro i
    rw [Nat.testBit_and, Nat.testBit_mod_two_pow, e3, Nat.testBit_or, Nat.testBit_shiftLeft, Nat.testBit_two_pow_sub_one]
    by_cases q : i < 31
    · have : ¬ 31 ≤ i := by omega
      simp [q, this]
    · by_cases q2 : i = 31
      · subst q2
        simp
      · have : (ul x).testBit i = false := Nat.testBit_lt_two_pow (Nat.lt_of_lt_of_le h (show 4294967296 ≤ 2 ^ i from Nat.le_trans (show 4294967296 ≤ 2 ^ 32 by decide) (Nat.pow_le_pow_right (by decide) (by omega))))
        simp [this, q]
  · subst q
    rw [if_neg (by decide), show fS 1 = 63 from rfl, show 9223372036854775807 = 2 ^ 63 - 1 by decide, Nat.and_two_pow_sub_one_eq_mod]
theorem X59_cs92 (o : FlU u c rg M) (v : VFc u c rg M s) (ht : t ≤ 1) (x : Int64) (hx : t = 0 → ul x < 4294967296) (sg : Bool) :
    HX59_changeSign_92 u w (c (10 + t)) x (bz (sg = true)) M ∧ ∃ N, GX59_changeSign_92 u w (c (10 + t)) x (bz (sg = true)) M = (Int32.ofInt 0, N) ∧ WrC u c rg t w s (pk t sg 0 (ul x % 2 ^ fS t), 0) M N := by
  have fm := (o.1.2.2.2.2.1 t (by omega)).2.2.1
  have e1 := X61_sign (M := M) ht fm True
  rw [bz_t trivial, fi_pos trivial] at e1
  have pS := Nat.two_pow_pos (fS t)
  have hm : ul x % 2 ^ fS t < 2 ^ fS t := Nat.mod_lt _ pS
  have p63 : 2 ^ fS t ≤ 9223372036854775808 := by rcases (p2F ht).1 with y | y <;> rw [y.2.2.2.1] <;> decide
  have eb : (x &&& (lN (2 ^ fS t) ^^^ Int64.ofInt (-1))) ||| lN (fi (sg = true) (2 ^ fS t) 0) = lN (pk t sg 0 (ul x % 2 ^ fS t)) := by
    have e2 : x &&& (lN (2 ^ fS t) ^^^ Int64.ofInt (-1)) = lN (ul x % 2 ^ fS t) := ul_inj (by rw [msk_s ht hx, l_big (by omega)])
    have e3 : ∀ p q : Int64, p ||| q = q ||| p := fun p q => ul_inj (by rw [ul_or, ul_or, Nat.or_comm])
    rw [e2, e3, sg_or ht hm]
    unfold pk
    rw [Nat.zero_mul, Nat.add_zero]
  obtain ⟨h, N, e, f, r⟩ := X59_write o v ht w (lN (pk t sg 0 (ul x % 2 ^ fS t)))
  unfold HX59_changeSign_92 GX59_changeSign_92
  dsimp only
  rw [e1]
  dsimp only
  rw [X61_sign ht fm]
  dsimp only
  rw [eb, e]
  refine ⟨⟨h, trivial⟩, N, rfl, f, ?_⟩
  rw [sFl_0]
  exact r
theorem X59_changeSign (o : FlU u c rg M) (v : VFc u c rg M s) (ht : t ≤ 1) :
    ∃ N, (HX59_changeSign u w (c (10 + t)) M ∧ GX59_changeSign u w (c (10 + t)) M = ((if pt w 12 3 < 3 then Int32.ofInt 0 else Int32.ofInt (-1)), N)) ∧
      (if pt w 12 3 < 3 then WrC u c rg t w s (pk t (sgJ t (pt w 12 3) (bO t (s.1 (pt w 15 5))) (bO t (s.1 (pt w 20 5)))) 0 (ul (bO t (s.1 (pt w 15 5))) % 2 ^ fS t), 0) M N else N = M) := by
  have fm := (o.1.2.2.2.2.1 t (by omega)).2.2.1
  obtain ⟨h1, e1⟩ := X59_read o v ht (pt_lt w 15 5)
  obtain ⟨h2, e2⟩ := X59_read o v ht (pt_lt w 20 5)
  have hx : t = 0 → ul (bO t (s.1 (pt w 15 5))) < 4294967296 := fun y => by rw [y]; exact bO_lt _
  have h8 : pt w 12 3 < 8 := pt_lt w 12 3
  have le2 : (nI (pt w 12 3) ≤ Int32.ofInt 2) = (pt w 12 3 < 3) := propext (by
    have := ni_le (z := 2) (k := pt w 12 3) (by omega)
    rw [this]
    omega)
  have c0 : (nI (pt w 12 3) = 0) = (pt w 12 3 = 0) := propext (ni_i (b := 0) (by omega) (by decide))
  have c1 : (nI (pt w 12 3) = Int32.ofInt 1) = (pt w 12 3 = 1) := propext (ni_i (b := 1) (by omega) (by decide))
  unfold HX59_changeSign HX59_changeSign_0 GX59_changeSign GX59_changeSign_0
  dsimp only
  rw [p15]
  dsimp only
  rw [e1]
  dsimp only
  rw [p20]
  dsimp only
  rw [e2]
  dsimp only
  rw [X61_hasSign ht fm]
  dsimp only
  rw [p12]
  dsimp only
  rw [X61_hasSign ht fm]
  dsimp only
  rw [le2, c0, c1, fi_bz, propext (bz_ii (s := uS' t (bO t (s.1 (pt w 20 5)))) (z := uS' t (bO t (s.1 (pt w 15 5)))))]
  have K := fun sg => X59_cs92 (w := w) o v ht (bO t (s.1 (pt w 15 5))) hx sg
  generalize bO t (s.1 (pt w 15 5)) = x at *
  generalize bO t (s.1 (pt w 20 5)) = y at *
  by_cases q : pt w 12 3 < 3
  · rw [fi_pos q, if_pos q]
    by_cases q0 : pt w 12 3 = 0
    · rw [fi_pos q0]
      obtain ⟨h, N, e, r⟩ := K (uS' t y)
      refine ⟨N, ⟨⟨h1, h2, fun _ => ⟨fun _ => h, fun z => absurd q0 z⟩, fun z => absurd q z⟩, e⟩, ?_⟩
      rw [if_pos q]
      unfold sgJ
      rw [if_pos q0]
      exact r
    · rw [fi_neg q0]
      by_cases q1 : pt w 12 3 = 1
      · rw [fi_pos q1]
        by_cases y1 : uS' t y = true
        · rw [fi_pos y1, bz_t y1]
          obtain ⟨h, N, e, r⟩ := K false
          rw [bz_f (show ¬ false = true by decide)] at h e
          refine ⟨N, ⟨⟨h1, h2, fun _ => ⟨fun z => absurd z q0, fun _ => ⟨fun _ => ⟨fun z => absurd z (by decide), fun _ => h⟩, fun z => absurd q1 z⟩⟩, fun z => absurd q z⟩, e⟩, ?_⟩
          rw [if_pos q]
          unfold sgJ
          rw [if_neg q0, if_pos q1, y1]
          exact r
        · rw [fi_neg y1, bz_f y1]
          obtain ⟨h, N, e, r⟩ := K true
          rw [bz_t rfl] at h e
          refine ⟨N, ⟨⟨h1, h2, fun _ => ⟨fun z => absurd z q0, fun _ => ⟨fun _ => ⟨fun _ => h, fun z => absurd rfl z⟩, fun z => absurd q1 z⟩⟩, fun z => absurd q z⟩, e⟩, ?_⟩
          rw [if_pos q]
          unfold sgJ
          rw [if_neg q0, if_pos q1, Bool.eq_false_iff.mpr y1]
          exact r
      · rw [fi_neg q1]
        by_cases y1 : uS' t y = uS' t x
        · rw [fi_pos y1]
          obtain ⟨h, N, e, r⟩ := K false
          rw [bz_f (show ¬ false = true by decide)] at h e
          refine ⟨N, ⟨⟨h1, h2, fun _ => ⟨fun z => absurd z q0, fun _ => ⟨fun z => absurd z q1, fun _ => ⟨fun _ => h, fun z => absurd y1 z⟩⟩⟩, fun z => absurd q z⟩, e⟩, ?_⟩
          rw [if_pos q]
          unfold sgJ
          rw [if_neg q0, if_neg q1, y1, Bool.xor_self]
          exact r
        · rw [fi_neg y1]
          obtain ⟨h, N, e, r⟩ := K true
          rw [bz_t rfl] at h e
          refine ⟨N, ⟨⟨h1, h2, fun _ => ⟨fun z => absurd z q0, fun _ => ⟨fun z => absurd z q1, fun _ => ⟨fun z => absurd z y1, fun _ => h⟩⟩⟩, fun z => absurd q z⟩, e⟩, ?_⟩
          rw [if_pos q]
          unfold sgJ
          rw [if_neg q0, if_neg q1, show (uS' t x ^^ uS' t y) = true by revert y1; cases uS' t x <;> cases uS' t y <;> decide]
          exact r
  · rw [fi_neg q, if_neg q]
    refine ⟨M, ⟨⟨h1, h2, fun z => absurd z q, fun _ => trivial⟩, rfl⟩, ?_⟩
    rw [if_neg q]
theorem X59_classOf (o : FlU u c rg M) (ht : t ≤ 1) (va : TkV c 0 M X.1 X.2.1) (h4 : X.1 ≤ 4) {x : Int64} (hx : M.2.1 118 (c 0) 0 = x) : GX59_classOf (c 0) (c (10 + t)) M = (nI (clN X (decide (uE t x = 0))), M) := by
  have fm := (o.1.2.2.2.2.1 t (by omega)).2.2.1
  have K74 : ∀ a : Nat, a ≤ 7 → GX59_classOf_74 (c 0) (nI a) M = (nI (if X.2.1 = true then 7 - a else a), M) := fun a ha => by
    unfold GX59_classOf_74 GX59_classOf_90
    rw [va.2, fi_bz]
    by_cases q : X.2.1 = true
    · rw [fi_pos q, if_pos q, show Int32.ofInt 7 = nI 7 from rfl, ni_sub ha]
    · rw [fi_neg q, if_neg q]
  unfold GX59_classOf GX59_classOf_0 GX59_classOf_27
  dsimp only
  rw [va.1, X72_isNone h4]
  dsimp only
  rw [X71_is4 va, X71_is2 va]
  dsimp only
  rw [X71_is0 va]
  dsimp only
  rw [hx, X61_isSmall ht fm]
  dsimp only
  rw [fi_bz, fi_bz, fi_bz, fi_bz, fi_bz]
  unfold clN
  by_cases q4 : X.1 = 4
  · rw [fi_pos (show 3 ≤ X.1 by omega), fi_pos q4, if_pos q4]
    rfl
  · rw [if_neg q4]
    by_cases q3 : X.1 = 3
    · rw [fi_pos (show 3 ≤ X.1 by omega), fi_neg q4, if_pos q3]
      rfl
    · rw [fi_neg (show ¬ 3 ≤ X.1 by omega), if_neg q3]
      by_cases q2 : X.1 = 2
      · rw [fi_pos q2, if_pos q2]
        exact K74 7 (by decide)
      · rw [fi_neg q2, if_neg q2]
        by_cases q0 : X.1 = 0
        · rw [fi_pos q0, if_pos q0]
          exact K74 4 (by decide)
        · rw [fi_neg q0, if_neg q0]
          by_cases q5 : uE t x = 0
          · rw [fi_pos q5, if_pos (decide_eq_true q5)]
            exact K74 5 (by decide)
          · rw [fi_neg q5, if_neg (fun y => q5 (of_decide_eq_true y))]
            exact K74 6 (by decide)
theorem clN_le (X : UU) (sm : Bool) : clN X sm ≤ 9 := by
  have a : (if X.1 = 2 then 7 else if X.1 = 0 then 4 else if sm = true then 5 else 6) ≤ 7 := by
    split
    · decide
    · split
      · decide
      · split <;> decide
  unfold clN
  split
  · decide
  · split
    · decide
    · split <;> omega
/-- what is looked at -/
noncomputable def lkV (t r a : Nat) (s : Fs) : Int64 := if r = 0 then (if t = 1 then s.1 a else (s.1 a).toInt32.toInt64) else lN (2 ^ clN (rdU t a s) (decide (uE t (bO t (s.1 a)) = 0)))
theorem X59_look (o : FlU u c rg M) (v : VFc u c rg M s) (ht : t ≤ 1) :
    ∃ N, (HX59_look u w (c (10 + t)) M ∧ GX59_look u w (c (10 + t)) M = ((if pt w 12 3 < 2 then Int32.ofInt 1 else Int32.ofInt (-1)), N)) ∧
      (if pt w 12 3 < 2 then GvC u c rg s (lkV t (pt w 12 3) (pt w 15 5) s, 0) M N else N = M) := by
  have h8 : pt w 12 3 < 8 := pt_lt w 12 3
  have h32 : pt w 15 5 < 32 := pt_lt w 15 5
  have c0 : (nI (pt w 12 3) = Int32.ofInt 0) = (pt w 12 3 = 0) := propext (ni_i (b := 0) (by omega) (by decide))
  have c1 : (nI (pt w 12 3) = Int32.ofInt 1) = (pt w 12 3 = 1) := propext (ni_i (b := 1) (by omega) (by decide))
  obtain ⟨e5, -, -, -, -⟩ := e105 o.1
  unfold HX59_look HX59_look_0 GX59_look GX59_look_0 GX59_look_65
  dsimp only
  rw [p15]
  dsimp only
  rw [p12]
  dsimp only
  rw [dbl o ht, c0, c1, e5]
  dsimp only
  rw [o.2.2.1.1, fi_bz]
  have inr : fm_in M rg (nI (pt w 15 5)) = true := in_nI o.2.2.1.2 h32 (by decide)
  by_cases q0 : pt w 12 3 = 0
  · rw [fi_pos q0, if_pos (show pt w 12 3 < 2 by omega), o_cl (show pt w 15 5 < 2147483648 by omega), v.1 _ h32]
    have G : ∀ x : Int64, x = lkV t (pt w 12 3) (pt w 15 5) s → ∃ N, GX59_give u x M = (Int32.ofInt 1, N) ∧ GvC u c rg s (lkV t (pt w 12 3) (pt w 15 5) s, 0) M N := fun x hx => by
      obtain ⟨N, e, f, r⟩ := X59_give o v x
      refine ⟨N, e, f, ?_⟩
      rw [sFl_0, ← hx]
      exact r
    unfold lkV at G
    rw [if_pos q0] at G
    rcases (show t = 0 ∨ t = 1 by omega) with y | y
    · obtain ⟨N, e, r⟩ := G ((s.1 (pt w 15 5)).toInt32.toInt64) (by rw [if_neg (by omega)])
      rw [fi_neg (show ¬ t = 1 by omega), e, bz_f (show ¬ t = 1 by omega)]
      refine ⟨N, ⟨⟨fun _ => ⟨fun _ => ⟨inr, trivial⟩, fun z => absurd rfl z⟩, fun z => absurd q0 z⟩, rfl⟩, ?_⟩
      rw [if_pos (show pt w 12 3 < 2 by omega)]
      unfold lkV
      rw [if_pos q0]
      exact r
    · obtain ⟨N, e, r⟩ := G (s.1 (pt w 15 5)) (by rw [if_pos y])
      rw [fi_pos y, e, bz_t y]
      refine ⟨N, ⟨⟨fun _ => ⟨fun z => absurd z (by decide), fun _ => ⟨inr, trivial⟩⟩, fun z => absurd q0 z⟩, rfl⟩, ?_⟩
      rw [if_pos (show pt w 12 3 < 2 by omega)]
      unfold lkV
      rw [if_pos q0]
      exact r
  · rw [fi_neg q0]
    by_cases q1 : pt w 12 3 = 1
    · rw [fi_pos q1, if_pos (show pt w 12 3 < 2 by omega)]
      obtain ⟨th, tc, tv, tn, tb⟩ := X59_take (S := fun j => j = 0) o v ht h32 (show 0 < 4 by decide) rfl
      have o1 := flU_c o tc
      have v1 := vFc_c o v tc
      rw [sFl_0] at v1
      generalize GX59_take u (nI (pt w 15 5)) (c (10 + t)) (c 0) M = M1 at *
      obtain ⟨e5, -, -, -, -⟩ := e105 o1.1
      have gX := rdU_g ht (pt w 15 5) s
      have cl := clN_le (rdU t (pt w 15 5) s) (decide (uE t (bO t (s.1 (pt w 15 5))) = 0))
      have eC : GX59_classOf (c 0) (c (10 + t)) M1 = _ := X59_classOf (X := rdU t (pt w 15 5) s) o1 ht tv gX.1 tb
      rw [e5, eC]
      dsimp only
      have e2 : Int64.ofInt 1 <<< ((nI (clN (rdU t (pt w 15 5) s) (decide (uE t (bO t (s.1 (pt w 15 5))) = 0)))).toInt64 &&& 63) = lkV t (pt w 12 3) (pt w 15 5) s := by
        have := shl_n (c := 1) (n := clN (rdU t (pt w 15 5) s) (decide (uE t (bO t (s.1 (pt w 15 5))) = 0))) (by omega) (by
          have : 2 ^ clN (rdU t (pt w 15 5) s) (decide (uE t (bO t (s.1 (pt w 15 5))) = 0)) ≤ 2 ^ 9 := Nat.pow_le_pow_right (by decide) cl
          have : (2 : Nat) ^ 9 = 512 := by decide
          omega)
        unfold lkV
        rw [if_neg q0, iz_nI]
        rw [Nat.one_mul] at this
        exact this
      rw [e2]
      obtain ⟨N, e, f, r⟩ := X59_give o1 v1 (lkV t (pt w 12 3) (pt w 15 5) s)
      rw [e]
      refine ⟨N, ⟨⟨fun z => absurd z q0, fun _ => ⟨fun _ => ⟨th, trivial⟩, fun z => absurd q1 z⟩⟩, rfl⟩, ?_⟩
      rw [if_pos (show pt w 12 3 < 2 by omega)]
      refine ⟨frU_t (frU_c tc.1) f, ?_⟩
      rw [sFl_0]
      exact r
    · rw [fi_neg q1, if_neg (show ¬ pt w 12 3 < 2 by omega)]
      refine ⟨M, ⟨⟨fun z => absurd z q0, fun _ => ⟨fun z => absurd z q1, fun _ => trivial⟩⟩, rfl⟩, ?_⟩
      rw [if_neg (show ¬ pt w 12 3 < 2 by omega)]
end Sg
