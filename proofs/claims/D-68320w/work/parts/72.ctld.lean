/-! control registers: whether an access is illegal, the twin, and both -/
set_option maxRecDepth 100000
section Il
variable {u d n : Nat} {k w : Int32} {Mc Mt M : FM}
abbrev shut (m : Int32) (cm cs : Int64) (n : Nat) : Prop := cnt n ∧ ((¬ m = Int32.ofInt 3 ∧ ¬ lb cm (n - 3072) = true) ∨ (m = 0 ∧ ¬ lb cs (n - 3072) = true))
abbrev illT (m w : Int32) (x cm cs : Int64) (n : Nat) : Prop := (¬ thr n ∨ ¬ lvl n ≤ m ∨ (¬ w = 0 ∧ n / 1024 = 3)) ∨ ((n = 384 ∧ m = Int32.ofInt 1 ∧ lb x 20 = true) ∨ (0 < n ∧ n < 4 ∧ tw x 13 = 0)) ∨ shut m cm cs n
theorem t_ill (hm : mde (Mt.1 360 d 0)) (hn : n < 4096) : GX100_isIllegal d (nI n) w Mt = (bz (illT (Mt.1 360 d 0) w (ht Mt d 768) (ht Mt d 774) (ht Mt d 262) n), Mt) := by
  have c163 : ∀ p q : Prop, GX100_isIllegal_163 (bz p) (bz q) Mt = (bz (p ∨ q), Mt) := fun p q => by
    unfold GX100_isIllegal_163 GX100_isIllegal_172 GX100_isIllegal_177
    simp only [fi_bz, fi_or]
    exact fi_pr
  have c156 : ∀ p : Prop, GX100_isIllegal_156 (bz p) Mt = (Int32.ofInt 1, Mt) := fun p => by
    unfold GX100_isIllegal_156 GX100_isIllegal_161
    rw [bz1, c163]
    exact Prod.ext ((bz_t (Or.inr trivial)).trans bz1) rfl
  have c160 : ∀ p : Prop, GX100_isIllegal_160 (bz p) Mt = (bz p, Mt) := fun p => by
    unfold GX100_isIllegal_160 GX100_isIllegal_161
    rw [bz0, c163]
    exact Prod.ext (congrArg bz (propext ⟨fun z => z.elim id False.elim, Or.inl⟩)) rfl
  have c133 : ∀ p : Prop, cnt n → GX100_isIllegal_133 d (bz p) ((Int64.ofInt 1) <<< ((nI n - Int32.ofInt 3072).toInt64 &&& 63)) Mt = (bz (p ∨ (Mt.1 360 d 0 = 0 ∧ ¬ lb (ht Mt d 262) (n - 3072) = true)), Mt) := fun p hc => by
    have e : ui (nI n - Int32.ofInt 3072) = n - 3072 := by
      have : n = 3072 ∨ n = 3073 ∨ n = 3074 := by unfold cnt at hc; omega
      rcases this with rfl | rfl | rfl <;> rfl
    unfold GX100_isIllegal_133
    dsimp only
    rw [c156, c160]
    have b := and_b0 (Mt.2.1 3 (Mt.2.2 361 d 0) (Int32.ofInt 262).toNatClampNeg) e (by omega)
    by_cases h : Mt.1 360 d 0 = 0
    · rw [fi_pos h]
      by_cases q : lb (ht Mt d 262) (n - 3072) = true
      · rw [fi_neg (fun z => b.mp z q)]
        exact Prod.ext (congrArg bz (propext ⟨Or.inl, fun z => z.elim id (fun y => absurd q y.2)⟩)) rfl
      · rw [fi_pos (b.mpr q)]
        exact Prod.ext (bz_t (Or.inr ⟨h, q⟩)).symm rfl
    · rw [fi_neg h]
      exact Prod.ext (congrArg bz (propext ⟨Or.inl, fun z => z.elim id (fun y => absurd y.1 h)⟩)) rfl
  have c86 : ∀ p q : Prop, GX100_isIllegal_86 d (nI n) (bz p) (bz q) Mt = (bz (p ∨ q ∨ shut (Mt.1 360 d 0) (ht Mt d 774) (ht Mt d 262) n), Mt) := fun p q => by
    unfold GX100_isIllegal_86
    rw [X100_isCount hn]
    dsimp only
    rw [fi_bz, c163, fi_bz, c156]
    by_cases hc : cnt n
    · rw [fi_pos hc, c133 p hc]
      have e : ui (nI n - Int32.ofInt 3072) = n - 3072 := by
        have : n = 3072 ∨ n = 3073 ∨ n = 3074 := by unfold cnt at hc; omega
        rcases this with rfl | rfl | rfl <;> rfl
      have b := and_b0 (Mt.2.1 3 (Mt.2.2 361 d 0) (Int32.ofInt 774).toNatClampNeg) e (by omega)
      by_cases hq : q
      · rw [fi_pos hq]
        exact Prod.ext (bz_t (Or.inr (Or.inl hq))).symm rfl
      · rw [fi_neg hq]
        by_cases h3 : Mt.1 360 d 0 = Int32.ofInt 3
        · rw [fi_pos ((mde3 hm).mpr h3)]
          refine Prod.ext (congrArg bz (propext ⟨fun z => z.elim Or.inl (fun y => Or.inr (Or.inr ⟨hc, Or.inr y⟩)), fun z => ?_⟩)) rfl
          rcases z with z | z | ⟨-, z | z⟩
          · exact Or.inl z
          · exact absurd z hq
          · exact absurd h3 z.1
          · exact Or.inr z
        · rw [fi_neg (fun z => h3 ((mde3 hm).mp z))]
          by_cases hb : lb (ht Mt d 774) (n - 3072) = true
          · rw [fi_neg (fun z => b.mp z hb)]
            refine Prod.ext (congrArg bz (propext ⟨fun z => z.elim Or.inl (fun y => Or.inr (Or.inr ⟨hc, Or.inr y⟩)), fun z => ?_⟩)) rfl
            rcases z with z | z | ⟨-, z | z⟩
            · exact Or.inl z
            · exact absurd z hq
            · exact absurd hb z.2
            · exact Or.inr z
          · rw [fi_pos (b.mpr hb)]
            exact Prod.ext (bz_t (Or.inr (Or.inr ⟨hc, Or.inl ⟨h3, hb⟩⟩))).symm rfl
    · rw [fi_neg hc]
      refine Prod.ext (congrArg bz (propext ⟨fun z => z.elim Or.inl (fun y => Or.inr (Or.inl y)), fun z => ?_⟩)) rfl
      rcases z with z | z | z
      · exact Or.inl z
      · exact Or.inr z
      · exact absurd z.1 hc
  have c65 : ∀ p : Prop, GX100_isIllegal_65 d (nI n) (bz p) Mt = (bz (p ∨ (0 < n ∧ n < 4 ∧ tw (ht Mt d 768) 13 = 0) ∨ shut (Mt.1 360 d 0) (ht Mt d 774) (ht Mt d 262) n), Mt) := fun p => by
    have e : GX100_isIllegal_65 d (nI n) (bz p) Mt = GX100_isIllegal_86 d (nI n) (bz p) (bz (0 < n ∧ n < 4 ∧ tw (ht Mt d 768) 13 = 0)) Mt := by
      unfold GX100_isIllegal_65 GX100_isIllegal_85 GX100_isIllegal_81
      rw [X100_floating]
      dsimp only
      by_cases h0 : 0 < n
      · rw [fi_neg (fun z => by have := (nle0 hn).mp z; omega)]
        by_cases h4 : n < 4
        · rw [fi_neg (fun z => by have := (nge hn 4 (by decide)).mp z; omega)]
          by_cases q : tw (ht Mt d 768) 13 = 0
          · rw [fi_pos q, bz_t (c := 0 < n ∧ _) ⟨h0, h4, q⟩]
          · rw [fi_neg q, bz_f (show ¬ (0 < n ∧ n < 4 ∧ tw (ht Mt d 768) 13 = 0) from fun z => q z.2.2)]
        · rw [fi_pos ((nge hn 4 (by decide)).mpr (by omega)), bz_f (show ¬ (0 < n ∧ n < 4 ∧ tw (ht Mt d 768) 13 = 0) from fun z => h4 z.2.1)]
      · rw [fi_pos ((nle0 hn).mpr (by omega)), bz_f (show ¬ (0 < n ∧ n < 4 ∧ tw (ht Mt d 768) 13 = 0) from fun z => h0 z.1)]
    rw [e, c86]
  have c39 : ∀ p : Prop, GX100_isIllegal_39 d (nI n) (bz p) Mt = (bz (p ∨ ((n = 384 ∧ Mt.1 360 d 0 = Int32.ofInt 1 ∧ lb (ht Mt d 768) 20 = true) ∨ (0 < n ∧ n < 4 ∧ tw (ht Mt d 768) 13 = 0)) ∨ shut (Mt.1 360 d 0) (ht Mt d 774) (ht Mt d 262) n), Mt) := fun p => by
    have e : GX100_isIllegal_39 d (nI n) (bz p) Mt = fi (n = 384 ∧ Mt.1 360 d 0 = Int32.ofInt 1 ∧ lb (ht Mt d 768) 20 = true) (GX100_isIllegal_81 d (nI n) (bz p) Mt) (GX100_isIllegal_65 d (nI n) (bz p) Mt) := by
      unfold GX100_isIllegal_39
      rw [X100_status (k := 20) rfl (by decide)]
      dsimp only
      by_cases h : n = 384
      · rw [fi_pos ((neq hn 384 (by decide)).mpr (by omega))]
        by_cases q : Mt.1 360 d 0 = Int32.ofInt 1
        · rw [fi_pos q]
          by_cases b : lb (ht Mt d 768) 20 = true
          · rw [fi_pos (bz_t b), fi_pos (c := n = 384 ∧ _) ⟨h, q, b⟩]
          · rw [fi_neg (fun z => b (Classical.byContradiction fun y => by rw [bz_f y] at z; exact absurd z (by decide))), fi_neg (show ¬ (n = 384 ∧ Mt.1 360 d 0 = Int32.ofInt 1 ∧ lb (ht Mt d 768) 20 = true) from fun z => b z.2.2)]
        · rw [fi_neg q, fi_neg (show ¬ (n = 384 ∧ Mt.1 360 d 0 = Int32.ofInt 1 ∧ lb (ht Mt d 768) 20 = true) from fun z => q z.2.1)]
      · rw [fi_neg (fun z => by have := (neq hn 384 (by decide)).mp z; omega), fi_neg (show ¬ (n = 384 ∧ Mt.1 360 d 0 = Int32.ofInt 1 ∧ lb (ht Mt d 768) 20 = true) from fun z => h z.1)]
    have c81 : GX100_isIllegal_81 d (nI n) (bz p) Mt = (Int32.ofInt 1, Mt) := by
      unfold GX100_isIllegal_81
      rw [bz1, c86]
      exact Prod.ext ((bz_t (Or.inr (Or.inl trivial))).trans bz1) rfl
    rw [e, c65, c81]
    by_cases h : n = 384 ∧ Mt.1 360 d 0 = Int32.ofInt 1 ∧ lb (ht Mt d 768) 20 = true
    · rw [fi_pos h]
      exact Prod.ext (bz_t (Or.inr (Or.inl (Or.inl h)))).symm rfl
    · rw [fi_neg h]
      refine Prod.ext (congrArg bz (propext (or_congr Iff.rfl (or_congr ⟨Or.inr, fun z => z.elim (fun y => absurd y h) id⟩ Iff.rfl)))) rfl
  have c0 : GX100_isIllegal d (nI n) w Mt = GX100_isIllegal_39 d (nI n) (bz (¬ thr n ∨ ¬ lvl n ≤ Mt.1 360 d 0 ∨ (¬ w = 0 ∧ n / 1024 = 3))) Mt := by
    unfold GX100_isIllegal GX100_isIllegal_0 GX100_isIllegal_34 GX100_isIllegal_38
    rw [X100_isThere hn]
    dsimp only
    rw [fi_bz, sh8a hn]
    by_cases h : thr n
    · rw [fi_pos h]
      by_cases l : lvl n ≤ Mt.1 360 d 0
      · rw [fi_neg (Int32.not_lt.mpr l)]
        by_cases q : w = 0
        · rw [fi_pos q, bz_f (show ¬ (¬ thr n ∨ ¬ lvl n ≤ Mt.1 360 d 0 ∨ (¬ w = 0 ∧ n / 1024 = 3)) from fun z => z.elim (fun y => y h) (fun y => y.elim (fun x => x l) (fun x => x.1 q)))]
        · rw [fi_neg q]
          by_cases f : n / 1024 = 3
          · rw [fi_pos ((neq (by omega) 3 (by decide)).mpr (by omega)), bz_t (show ¬ thr n ∨ ¬ lvl n ≤ Mt.1 360 d 0 ∨ (¬ w = 0 ∧ n / 1024 = 3) from Or.inr (Or.inr ⟨q, f⟩))]
          · rw [fi_neg (fun z => by have := (neq (by omega) 3 (by decide)).mp z; omega), bz_f (show ¬ (¬ thr n ∨ ¬ lvl n ≤ Mt.1 360 d 0 ∨ (¬ w = 0 ∧ n / 1024 = 3)) from fun z => z.elim (fun y => y h) (fun y => y.elim (fun x => x l) (fun x => f x.2)))]
      · rw [fi_pos (Int32.not_le.mp l), bz_t (show ¬ thr n ∨ ¬ lvl n ≤ Mt.1 360 d 0 ∨ (¬ w = 0 ∧ n / 1024 = 3) from Or.inr (Or.inl l))]
    · rw [fi_neg h, bz_t (show ¬ thr n ∨ ¬ lvl n ≤ Mt.1 360 d 0 ∨ (¬ w = 0 ∧ n / 1024 = 3) from Or.inl h)]
  rw [c0, c39]
theorem ill_eq {m : Int32} {x cm cs : Int64} : (¬ thr n ∨ illC m w x cm cs n) ↔ illT m w x cm cs n := by
  have hc : (cnt n ∧ ¬ may m cm cs (n - 3072)) ↔ shut m cm cs n := by
    constructor
    · rintro ⟨h, q⟩
      refine ⟨h, Classical.byContradiction fun y => q ⟨?_, fun m0 => ?_⟩⟩
      · by_cases a : m = Int32.ofInt 3
        · exact Or.inl a
        · exact Or.inr (Classical.byContradiction fun b => y (Or.inl ⟨a, b⟩))
      · exact Classical.byContradiction fun b => y (Or.inr ⟨m0, b⟩)
    · rintro ⟨h, q⟩
      refine ⟨h, fun y => ?_⟩
      rcases q with ⟨a, b⟩ | ⟨a, b⟩
      · exact y.1.elim a b
      · exact b (y.2 a)
  constructor
  · rintro (h | h | h | h | h | h)
    · exact Or.inl (Or.inl h)
    · exact Or.inl (Or.inr (Or.inl h))
    · exact Or.inl (Or.inr (Or.inr h))
    · exact Or.inr (Or.inl (Or.inl h))
    · by_cases z : 0 < n
      · exact Or.inr (Or.inl (Or.inr ⟨z, h.1, h.2⟩))
      · refine Or.inl (Or.inl (fun t => ?_))
        unfold thr mch sup cnt els at t
        omega
    · exact Or.inr (Or.inr (hc.mp h))
  · rintro ((h | h | h) | (h | h) | h)
    · exact Or.inl h
    · exact Or.inr (Or.inl h)
    · exact Or.inr (Or.inr (Or.inl h))
    · exact Or.inr (Or.inr (Or.inr (Or.inl h)))
    · exact Or.inr (Or.inr (Or.inr (Or.inr (Or.inl ⟨h.2.1, h.2.2⟩))))
    · exact Or.inr (Or.inr (Or.inr (Or.inr (Or.inr (hc.mpr h)))))
/-- both sides find the same accesses illegal -/
theorem rel_ill (R : RelC u d k Mc Mt) (z : Mc.2.2 0 0 0 = 0) (hn : n < 4096) : ∃ P : Prop, GX74_isIllegal u (nI n) w Mc = (bz P, Mc) ∧ GX100_isIllegal d (nI n) w Mt = (bz P, Mt) ∧ (¬ P → thr n ∧ (¬ w = 0 → ¬ n / 1024 = 3)) := by
  obtain ⟨⟨Tc, nu, S, K⟩, ⟨Tt, nd, Z, I⟩, v1, vl, ⟨vm, hm⟩, vc⟩ := R
  refine ⟨illT (Mt.1 360 d 0) w (ht Mt d 768) (ht Mt d 774) (ht Mt d 262) n, ?_, t_ill hm hn, fun h => ⟨Classical.byContradiction fun y => h (Or.inl (Or.inl y)), fun hw y => h (Or.inl (Or.inr (Or.inr ⟨hw, y⟩)))⟩⟩
  rw [c_ill S hn, v1_at v1 cn_768, v1_at v1 (cn_of rfl), v1_at v1 (cn_of rfl), vm]
  refine Prod.ext (congrArg bz (propext (Iff.trans (or_congr ?_ Iff.rfl) ill_eq))) rfl
  have := rel_there S z hn
  exact ⟨fun a b => this.mpr b a, fun a => Classical.byContradiction fun b => a (this.mp b)⟩
theorem c_illH (T : Ty Mc) (nu : fm_is Mc 12 12 u = true) (S : StC u Mc) (hn : n < 4096) : HX74_isIllegal u (nI n) w Mc := by
  have hi : fm_in Mc (Mc.2.2 25 u 0) (nI n) = true := in_u (tL_25 T.1 nu) (by rw [ui_nI]; omega) (by decide)
  have q120 : ∀ a b c e f : Int32, HX74_isIllegal_120 u (nI n) a b c e f Mc := fun _ _ _ _ _ => ⟨hi, trivial⟩
  have q89 : ∀ a b c e : Int32, HX74_isIllegal_89 u (nI n) a b c e Mc := fun a b c e => by
    refine ⟨fun _ => q120 _ _ _ _ _, fun h1 => ⟨fun _ => q120 _ _ _ _ _, fun h2 => ?_⟩⟩
    have h : cnt n := by
      have g1 : ¬ (n : Int) < 3072 := fun z => h1 ((nlt hn 3072 (by decide)).mpr z)
      have g2 : ¬ 3074 < (n : Int) := fun z => h2 ((ngt hn 3074 (by decide)).mpr z)
      unfold cnt
      omega
    rw [and3 h, c_may S (j := n - 3072) (by omega) (by rw [ui_nI]; omega)]
    exact ⟨fun _ => q120 _ _ _ _ _, fun _ => q120 _ _ _ _ _⟩
  have e27 : Mc.2.2 27 u 0 = tbl Mc u 768 := S.2.2.1.1
  have q70 : ∀ a b c : Int32, HX74_isIllegal_70 u (nI n) a b c Mc := fun a b c => by
    refine ⟨fun _ => q89 _ _ _ _, fun _ => ?_⟩
    have e : (GX74_floats u Mc).2 = Mc := by
      unfold GX74_floats GX74_floats_0 GX74_floats_17
      dsimp only
      rw [X78_two (k := 13) rfl (by decide)]
      dsimp only
      by_cases q : tw (Mc.2.1 41 (Mc.2.2 27 u 0) 0) 13 = 0
      · rw [fi_pos q]
      · rw [fi_neg q]
    dsimp only
    rw [e]
    exact ⟨fun _ => q89 _ _ _ _, fun _ => q89 _ _ _ _⟩
  have q36 : ∀ a b : Int32, HX74_isIllegal_36 u (nI n) a b Mc := fun a b => by
    refine ⟨fun _ => ⟨fun _ => ?_, fun _ => q70 _ _ _⟩, fun _ => q70 _ _ _⟩
    dsimp only
    rw [X78_has (k := 20) rfl (by decide)]
    exact ⟨fun _ => q70 _ _ _, fun _ => q70 _ _ _⟩
  have q18 : ∀ a : Int32, HX74_isIllegal_18 u (nI n) w a Mc := fun a => ⟨fun _ => q36 _ _, fun _ => ⟨fun _ => q36 _ _, fun _ => q36 _ _⟩⟩
  exact ⟨fun _ => q18 _, fun _ => q18 _⟩
end Il
