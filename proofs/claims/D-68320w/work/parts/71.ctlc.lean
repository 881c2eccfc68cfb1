/-! control registers: whether an access is illegal -/
set_option maxRecDepth 100000
theorem sh8 {n : Nat} (hn : n < 4096) : nI n >>> (Int32.ofInt 10 &&& 31) = nI (n / 1024) := by
  apply ui_inj
  rw [ui_sar0 _ _ (by rw [ui_nI]; omega), ui_nI, ui_nI, show ui (Int32.ofInt 10) = 10 from rfl, show 2 ^ (10 % 32) = 1024 from rfl]
  omega
theorem sh8a {n : Nat} (hn : n < 4096) : (nI n >>> (Int32.ofInt 10 &&& 31)) &&& Int32.ofInt 3 = nI (n / 1024) := by
  rw [sh8 hn]
  have h : n / 1024 = 0 ∨ n / 1024 = 1 ∨ n / 1024 = 2 ∨ n / 1024 = 3 := by omega
  rcases h with h | h | h | h <;> rw [h] <;> rfl
theorem and_b0 (x : Int64) {b : Int32} {k : Nat} (hb : ui b = k) (hk : k < 64) : lg_cmp (x &&& ((Int64.ofInt 1) <<< (b.toInt64 &&& 63))) (Int64.ofInt 0) = 0 ↔ ¬ lb x k = true := by
  have e : ∀ i, i < 64 → lb (x &&& ((Int64.ofInt 1) <<< (b.toInt64 &&& 63))) i = (lb x i && decide (i = k)) := fun i hi => by
    rw [lb_and, lb_shl (k := k) _ _ (by omega), lb_one, decide_eq_true hi, Bool.true_and]
    by_cases h : i = k
    · rw [decide_eq_true h, decide_eq_true (show k ≤ i by omega), decide_eq_true (show i - k = 0 by omega)]
      rfl
    · rw [decide_eq_false h, show (decide (k ≤ i) && decide (i - k = 0)) = false from by
        by_cases z : k ≤ i
        · rw [decide_eq_false (show ¬ i - k = 0 by omega), Bool.and_false]
        · rw [decide_eq_false z, Bool.false_and]]
  constructor
  · intro q h
    have z : x &&& ((Int64.ofInt 1) <<< (b.toInt64 &&& 63)) = Int64.ofInt 0 := ul_inj (cl_eq.mp q)
    have := e k hk
    rw [z, lb_0, h, decide_eq_true rfl] at this
    cases this
  · intro h
    rw [cl_eq]
    congr 1
    refine lb_ext fun i hi => ?_
    rw [e i hi, lb_0]
    by_cases c : i = k
    · rw [c, eq_false_of_ne_true h]; rfl
    · rw [decide_eq_false c, Bool.and_false]
section Il
variable {u d n : Nat} {k w : Int32} {Mc Mt M : FM}
abbrev lvl (n : Nat) : Int32 := (nI n >>> (Int32.ofInt 8 &&& 31)) &&& Int32.ofInt 3
abbrev may (m : Int32) (cm cs : Int64) (j : Nat) : Prop := (m = Int32.ofInt 3 ∨ lb cm j = true) ∧ (m = 0 → lb cs j = true)
theorem c_may (S : StC u Mc) {j : Nat} (hj : j < 64) {a : Int32} (ha : ui a = j) : GX74_mayCount u a Mc = (bz (may (Mc.1 37 u 0) (Mc.2.1 41 (tbl Mc u 774) 0) (Mc.2.1 41 (tbl Mc u 262) 0) j), Mc) := by
  obtain ⟨s1, s2, -, ⟨b49, b54, -⟩, ⟨c49, c54, -⟩, -⟩ := S
  have hs : ∀ p : Prop, GX74_mayCount_32 u a (bz p) Mc = (bz (p ∧ (Mc.1 37 u 0 = 0 → lb (Mc.2.1 41 (tbl Mc u 262) 0) j = true)), Mc) := fun p => by
    unfold GX74_mayCount_32 GX74_mayCount_63 GX74_mayCount_67 GX74_mayCount_68
    dsimp only
    rw [c54, d14s (tg_of s1 rfl)]
    by_cases hp : p
    · rw [fi_neg (fun z => bz_0.mp z hp)]
      by_cases h0 : Mc.1 37 u 0 = 0
      · rw [fi_pos h0]
        by_cases hb : lb (Mc.2.1 41 (tbl Mc u 262) 0) j = true
        · rw [fi_pos ((bit_c1 _ ha hj).mpr hb), bz_t (c := p ∧ _) ⟨hp, fun _ => hb⟩]
        · rw [fi_neg (fun z => hb ((bit_c1 _ ha hj).mp z)), bz_f (show ¬ (p ∧ (Mc.1 37 u 0 = 0 → lb (Mc.2.1 41 (tbl Mc u 262) 0) j = true)) from fun z => hb (z.2 h0))]
      · rw [fi_neg h0, bz_t (c := p ∧ _) ⟨hp, fun z => absurd z h0⟩]
    · rw [fi_pos (bz_0.mpr hp), bz_f (c := p ∧ _) (fun z => hp z.1)]
  unfold GX74_mayCount GX74_mayCount_0 GX74_mayCount_27
  dsimp only
  rw [b54, d14s (tg_of s1 rfl)]
  dsimp only
  by_cases h3 : Mc.1 37 u 0 = Int32.ofInt 3
  · rw [fi_pos h3, bz1, hs]
    exact Prod.ext (congrArg bz (propext ⟨fun z => ⟨Or.inl h3, z.2⟩, fun z => ⟨trivial, z.2⟩⟩)) rfl
  · rw [fi_neg h3]
    by_cases hb : lb (Mc.2.1 41 (tbl Mc u 774) 0) j = true
    · rw [fi_pos ((bit_c1 _ ha hj).mpr hb), bz1, hs]
      exact Prod.ext (congrArg bz (propext ⟨fun z => ⟨Or.inr hb, z.2⟩, fun z => ⟨trivial, z.2⟩⟩)) rfl
    · rw [fi_neg (fun z => hb ((bit_c1 _ ha hj).mp z)), bz0, hs]
      exact Prod.ext (congrArg bz (propext ⟨fun z => z.1.elim, fun z => (z.1.elim h3 hb).elim⟩)) rfl
theorem and3 (h : cnt n) : nI n &&& Int32.ofInt 3 = nI (n - 3072) := by
  have : n = 3072 ∨ n = 3073 ∨ n = 3074 := by unfold cnt at h; omega
  rcases this with rfl | rfl | rfl <;> rfl
abbrev illC (m w : Int32) (x cm cs : Int64) (n : Nat) : Prop := ¬ lvl n ≤ m ∨ (¬ w = 0 ∧ n / 1024 = 3) ∨ (n = 384 ∧ m = Int32.ofInt 1 ∧ lb x 20 = true) ∨ (n < 4 ∧ tw x 13 = 0) ∨ (cnt n ∧ ¬ may m cm cs (n - 3072))
theorem c_ill (S : StC u Mc) (hn : n < 4096) : GX74_isIllegal u (nI n) w Mc = (bz (tbl Mc u n = 0 ∨ illC (Mc.1 37 u 0) w (Mc.2.1 41 (tbl Mc u 768) 0) (Mc.2.1 41 (tbl Mc u 774) 0) (Mc.2.1 41 (tbl Mc u 262) 0) n), Mc) := by
  have e27 : Mc.2.2 27 u 0 = tbl Mc u 768 := S.2.2.1.1
  have c120 : ∀ p1 p2 p3 p4 p5 : Prop, GX74_isIllegal_120 u (nI n) (bz p1) (bz p2) (bz p3) (bz p4) (bz p5) Mc = (bz (tbl Mc u n = 0 ∨ p1 ∨ p2 ∨ p3 ∨ p4 ∨ p5), Mc) := fun p1 p2 p3 p4 p5 => by
    unfold GX74_isIllegal_120 GX74_isIllegal_155 GX74_isIllegal_160
    dsimp only
    rw [nI_clamp (by omega)]
    simp only [fi_bz, fi_or]
    exact fi_pr
  have c89 : ∀ a b c e : Int32, GX74_isIllegal_89 u (nI n) a b c e Mc = GX74_isIllegal_120 u (nI n) a b c e (bz (cnt n ∧ ¬ may (Mc.1 37 u 0) (Mc.2.1 41 (tbl Mc u 774) 0) (Mc.2.1 41 (tbl Mc u 262) 0) (n - 3072))) Mc := fun a b c e => by
    unfold GX74_isIllegal_89 GX74_isIllegal_119
    by_cases h : cnt n
    · rw [fi_neg (fun z => by have := (nlt hn 3072 (by decide)).mp z; omega), fi_neg (fun z => by have := (ngt hn 3074 (by decide)).mp z; omega), and3 h, c_may S (j := n - 3072) (by omega) (by rw [ui_nI]; omega)]
      dsimp only
      rw [fi_bz]
      by_cases q : may (Mc.1 37 u 0) (Mc.2.1 41 (tbl Mc u 774) 0) (Mc.2.1 41 (tbl Mc u 262) 0) (n - 3072)
      · rw [fi_pos q, bz_f (show ¬ (cnt n ∧ ¬ may (Mc.1 37 u 0) (Mc.2.1 41 (tbl Mc u 774) 0) (Mc.2.1 41 (tbl Mc u 262) 0) (n - 3072)) from fun z => z.2 q)]
      · rw [fi_neg q, bz_t (c := cnt n ∧ _) ⟨h, q⟩]
    · rw [bz_f (c := cnt n ∧ _) (fun z => h z.1)]
      by_cases q : n < 3072
      · rw [fi_pos ((nlt hn 3072 (by decide)).mpr (by omega))]
      · rw [fi_neg (fun z => by have := (nlt hn 3072 (by decide)).mp z; omega), fi_pos ((ngt hn 3074 (by decide)).mpr (by omega))]
  have c70 : ∀ a b c : Int32, GX74_isIllegal_70 u (nI n) a b c Mc = GX74_isIllegal_89 u (nI n) a b c (bz (n < 4 ∧ tw (Mc.2.1 41 (tbl Mc u 768) 0) 13 = 0)) Mc := fun a b c => by
    unfold GX74_isIllegal_70 GX74_isIllegal_88 GX74_floats GX74_floats_0 GX74_floats_17
    dsimp only
    rw [e27, X78_two (k := 13) rfl (by decide)]
    dsimp only
    by_cases h : n < 4
    · rw [fi_neg (fun z => by have := (nge hn 4 (by decide)).mp z; omega)]
      by_cases q : tw (Mc.2.1 41 (tbl Mc u 768) 0) 13 = 0
      · rw [fi_pos q]
        dsimp only
        rw [fi_pos i00, bz_t (c := n < 4 ∧ _) ⟨h, q⟩]
      · rw [fi_neg q]
        dsimp only
        rw [fi_neg n10, bz_f (show ¬ (n < 4 ∧ tw (Mc.2.1 41 (tbl Mc u 768) 0) 13 = 0) from fun z => q z.2)]
    · rw [fi_pos ((nge hn 4 (by decide)).mpr (by omega)), bz_f (c := n < 4 ∧ _) (fun z => h z.1)]
  have c36 : ∀ a b : Int32, GX74_isIllegal_36 u (nI n) a b Mc = GX74_isIllegal_70 u (nI n) a b (bz (n = 384 ∧ Mc.1 37 u 0 = Int32.ofInt 1 ∧ lb (Mc.2.1 41 (tbl Mc u 768) 0) 20 = true)) Mc := fun a b => by
    unfold GX74_isIllegal_36 GX74_isIllegal_69
    dsimp only
    rw [e27, X78_has (k := 20) rfl (by decide)]
    dsimp only
    rw [fi_bz]
    by_cases h : n = 384
    · rw [fi_pos ((neq hn 384 (by decide)).mpr (by omega))]
      by_cases q : Mc.1 37 u 0 = Int32.ofInt 1
      · rw [fi_pos q]
        by_cases b : lb (Mc.2.1 41 (tbl Mc u 768) 0) 20 = true
        · rw [fi_pos b, bz_t (c := n = 384 ∧ _) ⟨h, q, b⟩]
        · rw [fi_neg b, bz_f (show ¬ (n = 384 ∧ Mc.1 37 u 0 = Int32.ofInt 1 ∧ lb (Mc.2.1 41 (tbl Mc u 768) 0) 20 = true) from fun z => b z.2.2)]
      · rw [fi_neg q, bz_f (show ¬ (n = 384 ∧ Mc.1 37 u 0 = Int32.ofInt 1 ∧ lb (Mc.2.1 41 (tbl Mc u 768) 0) 20 = true) from fun z => q z.2.1)]
    · rw [fi_neg (fun z => by have := (neq hn 384 (by decide)).mp z; omega), bz_f (c := n = 384 ∧ _) (fun z => h z.1)]
  have c18 : ∀ a : Int32, GX74_isIllegal_18 u (nI n) w a Mc = GX74_isIllegal_36 u (nI n) a (bz (¬ w = 0 ∧ n / 1024 = 3)) Mc := fun a => by
    unfold GX74_isIllegal_18 GX74_isIllegal_35
    rw [sh8 hn]
    by_cases h : w = 0
    · rw [fi_pos h, bz_f (c := ¬ w = 0 ∧ _) (fun z => z.1 h)]
    · rw [fi_neg h]
      by_cases q : n / 1024 = 3
      · rw [fi_pos ((neq (by omega) 3 (by decide)).mpr (by omega)), bz_t (c := ¬ w = 0 ∧ _) ⟨h, q⟩]
      · rw [fi_neg (fun z => by have := (neq (by omega) 3 (by decide)).mp z; omega), bz_f (show ¬ (¬ w = 0 ∧ n / 1024 = 3) from fun z => q z.2)]
  unfold GX74_isIllegal GX74_isIllegal_0
  by_cases h : lvl n ≤ Mc.1 37 u 0
  · rw [fi_pos h, bz0, c18, c36, c70, c89, c120]
    exact Prod.ext (congrArg bz (propext (or_congr Iff.rfl (or_congr ⟨fun z => z.elim, fun z => z h⟩ Iff.rfl)))) rfl
  · rw [fi_neg h, bz1, c18, c36, c70, c89, c120]
    exact Prod.ext (congrArg bz (propext (or_congr Iff.rfl (or_congr ⟨fun _ => h, fun _ => trivial⟩ Iff.rfl)))) rfl
end Il
