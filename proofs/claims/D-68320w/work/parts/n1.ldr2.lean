/-! images: what is wrong with one (the component) -/
set_option maxRecDepth 100000
def isS (X : Nat → Nat) (p : Nat) : Prop := nmV X p 4 = 1
/-- two stretches meet -/
def mtP (a m b n : Int64) : Prop := ¬ lg_cmp m (Int64.ofInt 0) ≤ 0 ∧ ¬ lg_cmp n (Int64.ofInt 0) ≤ 0 ∧ ¬ 0 ≤ lg_cmp a (b + n) ∧ ¬ 0 ≤ lg_cmp b (a + m)
def sgP (X : Nat → Nat) (p q : Nat) : Prop := isS X q ∧ mtP (lN (nmV X (p + 24) 8)) (lN (nmV X (p + 40) 8)) (lN (nmV X (q + 24) 8)) (lN (nmV X (q + 40) 8))
/-- what is wrong with a segment -/
noncomputable def sgF (X : Nat → Nat) (n t k : Nat) : Nat :=
  fi (¬ fitP (nmV X (t + 56 * k + 8) 8) (nmV X (t + 56 * k + 32) 8) n ∨ nmV X (t + 56 * k + 40) 8 < nmV X (t + 56 * k + 32) 8) 5
    (fi (nmV X (t + 56 * k + 40) 8 ≠ 0 ∧ ¬ inR (lN (nmV X (t + 56 * k + 24) 8)) (nmV X (t + 56 * k + 40) 8)) 6
      (fi (∃ o, o < k ∧ sgP X (t + 56 * k) (t + 56 * o)) 7 0))
noncomputable def ptF (X : Nat → Nat) (n t k : Nat) : Nat := fi (isS X (t + 56 * k)) (sgF X n t k) 0
/-- the first that is wrong -/
noncomputable def psF (X : Nat → Nat) (n t : Nat) : Nat → Nat → Nat
  | _, 0 => 0
  | k, m + 1 => fi (ptF X n t k = 0) (psF X n t (k + 1) m) (ptF X n t k)
def enO (X : Nat → Nat) : Prop := nmV X 24 8 % 2 = 0 ∧ inR (lN (nmV X 24 8)) 1
/-- what is wrong with an image -/
noncomputable def imF (X : Nat → Nat) (n : Nat) : Nat :=
  fi (64 ≤ n) (fi (nmV X 0 7 = 282584257676671)
    (fi (nmV X 16 2 = 2 ∧ nmV X 18 2 = 243 ∧ nmV X 20 4 = 1)
      (fi (nmV X 52 2 = 64 ∧ nmV X 54 2 = 56 ∧ (1 ≤ nmV X 56 2 ∧ nmV X 56 2 ≤ 16) ∧ fitP (nmV X 32 8) (56 * nmV X 56 2) n)
        (fi (psF X n (nmV X 32 8) 0 (nmV X 56 2) = 0) (fi (enO X) 0 8) (psF X n (nmV X 32 8) 0 (nmV X 56 2))) 4) 3) 2) 1
def LdV (l : Nat) (M : FM) (X : Nat → Nat) (n : Nat) : Prop := Ty M ∧ fm_is M 66 66 l = true ∧ TpR (M.2.2 186 l 0) M X n ∧ TpX X n ∧ M.1 202 (M.2.2 187 l 0) 0 = Int32.ofInt 1024
theorem lgE {v c : Nat} (hv : v < 18446744073709551616) (hc : c < 18446744073709551616) : lg_cmp (lN v) (lN c) = 0 ↔ v = c := by rw [cl_eq, lN_m v hv, lN_m c hc]
theorem lgN {v : Nat} (hv : v < 18446744073709551616) : lg_cmp (lN v) (Int64.ofInt 0) < 0 ↔ 9223372036854775808 ≤ v := by
  rw [cl_lt, tl, lN_m v hv, show (Int64.ofInt 0).toInt = 0 from rfl]
  split <;> omega
theorem fi_le {c : Prop} {t e b : Nat} (h : t ≤ b) (k : e ≤ b) : fi c t e ≤ b := by
  by_cases q : c
  · rw [fi_pos q]; exact h
  · rw [fi_neg q]; exact k
theorem sgF_lt {X : Nat → Nat} {n t k : Nat} : sgF X n t k ≤ 7 := by
  unfold sgF
  exact fi_le (by decide) (fi_le (by decide) (fi_le (by decide) (by decide)))
theorem ptF_lt {X : Nat → Nat} {n t k : Nat} : ptF X n t k ≤ 7 := by
  unfold ptF
  exact fi_le sgF_lt (Nat.zero_le _)
theorem psF_lt {X : Nat → Nat} {n t : Nat} : ∀ m k, psF X n t k m ≤ 7
  | 0, _ => Nat.zero_le _
  | m + 1, k => by
    show fi _ _ _ ≤ 7
    exact fi_le (psF_lt m (k + 1)) ptF_lt
section Lf
variable {l n t k q : Nat} {M : FM} {X : Nat → Nat}
theorem nu (V : LdV l M X n) {a1 : Int64} {a s : Nat} (ea : a1 = lN a) (hs : s ≤ 8) (ha : a + s ≤ 65536) : HX90_number l a1 (nI s) M ∧ GX90_number l a1 (nI s) M = (lN (nmV X a s), M) :=
  X90_number V.1 V.2.1 V.2.2.1 V.2.2.2.1.1 (by rw [ea, o_32 (by omega)]) hs ha
theorem ad_k (ht : t ≤ 65536) (hk : k ≤ 16) : lN t + (Int32.ofInt 56 * nI k).toInt64 = lN (t + 56 * k) := by
  rw [show Int32.ofInt 56 = nI 56 from rfl, nI_m, o_64 (by omega), o_add (by omega) (by omega)]
theorem ad_d {d : Nat} (ht : t ≤ 1000000) (hd : d ≤ 100) : lN t + lN d = lN (t + d) := o_add (by omega) (by omega)
theorem X90_isS (V : LdV l M X n) (ht : t + 56 * k + 56 ≤ 65536) (hk : k ≤ 16) : HX90_isSegment l (lN t) (nI k) M ∧ GX90_isSegment l (lN t) (nI k) M = (bz (isS X (t + 56 * k)), M) := by
  have ea := ad_k (t := t) (k := k) (by omega) hk
  obtain ⟨p1, p2⟩ := nu (s := 4) V ea (by decide) (by omega)
  have hb := V.2.2.2.1.1
  have c : lg_cmp (lN (nmV X (t + 56 * k) 4)) (Int64.ofInt 1) = 0 ↔ nmV X (t + 56 * k) 4 = 1 := lgE (v := nmV X (t + 56 * k) 4) (c := 1) (by have := nm_4 hb (t + 56 * k); omega) (by decide)
  refine ⟨⟨p1, trivial⟩, ?_⟩
  unfold GX90_isSegment GX90_isSegment_0 GX90_isSegment_22 isS
  have p2 : GX90_number l (lN t + (Int32.ofInt 56 * nI k).toInt64) (Int32.ofInt 4) M = _ := p2
  dsimp only
  rw [p2]
  dsimp only
  by_cases h : nmV X (t + 56 * k) 4 = 1
  · rw [fi_pos (c.mpr h), bz_t h]
  · rw [fi_neg (fun z => h (c.mp z)), bz_f h]
theorem X90_meets (V : LdV l M X n) (ht : t + 56 * k + 56 ≤ 65536) (hk : k ≤ 16) (hq : q ≤ k) : HX90_meets l (lN t) (nI k) (nI q) M ∧ GX90_meets l (lN t) (nI k) (nI q) M = (bz (sgP X (t + 56 * k) (t + 56 * q)), M) := by
  have e1 := ad_k (t := t) (k := k) (by omega) hk
  have e2 := ad_k (t := t) (k := q) (by omega) (by omega)
  obtain ⟨p1, g1⟩ := nu (s := 8) V (a1 := (lN t + (Int32.ofInt 56 * nI k).toInt64) + Int64.ofInt 24) (a := t + 56 * k + 24) (by rw [e1]; exact ad_d (by omega) (by decide)) (by decide) (by omega)
  obtain ⟨p2, g2⟩ := nu (s := 8) V (a1 := (lN t + (Int32.ofInt 56 * nI k).toInt64) + Int64.ofInt 40) (a := t + 56 * k + 40) (by rw [e1]; exact ad_d (by omega) (by decide)) (by decide) (by omega)
  obtain ⟨p3, g3⟩ := nu (s := 8) V (a1 := (lN t + (Int32.ofInt 56 * nI q).toInt64) + Int64.ofInt 24) (a := t + 56 * q + 24) (by rw [e2]; exact ad_d (by omega) (by decide)) (by decide) (by omega)
  obtain ⟨p4, g4⟩ := nu (s := 8) V (a1 := (lN t + (Int32.ofInt 56 * nI q).toInt64) + Int64.ofInt 40) (a := t + 56 * q + 40) (by rw [e2]; exact ad_d (by omega) (by decide)) (by decide) (by omega)
  obtain ⟨p5, g5⟩ := X90_isS (t := t) (k := q) V (by omega) (by omega)
  have g1 : GX90_number l ((lN t + (Int32.ofInt 56 * nI k).toInt64) + Int64.ofInt 24) (Int32.ofInt 8) M = _ := g1
  have g2 : GX90_number l ((lN t + (Int32.ofInt 56 * nI k).toInt64) + Int64.ofInt 40) (Int32.ofInt 8) M = _ := g2
  have g3 : GX90_number l ((lN t + (Int32.ofInt 56 * nI q).toInt64) + Int64.ofInt 24) (Int32.ofInt 8) M = _ := g3
  have g4 : GX90_number l ((lN t + (Int32.ofInt 56 * nI q).toInt64) + Int64.ofInt 40) (Int32.ofInt 8) M = _ := g4
  unfold HX90_meets HX90_meets_0 GX90_meets GX90_meets_0 GX90_meets_128 GX90_meets_129
  dsimp only
  rw [g1]
  dsimp only
  rw [g2]
  dsimp only
  rw [g3]
  dsimp only
  rw [g4]
  dsimp only
  rw [g5]
  dsimp only
  refine ⟨⟨p1, p2, p3, p4, p5, trivial⟩, ?_⟩
  unfold sgP mtP
  rw [fi_bz]
  by_cases c0 : isS X (t + 56 * q)
  · rw [fi_pos c0]
    by_cases c1 : lg_cmp (lN (nmV X (t + 56 * k + 40) 8)) (Int64.ofInt 0) ≤ 0
    · rw [fi_pos c1, bz_f (fun z => z.2.1 c1)]
    · rw [fi_neg c1]
      by_cases c2 : lg_cmp (lN (nmV X (t + 56 * q + 40) 8)) (Int64.ofInt 0) ≤ 0
      · rw [fi_pos c2, bz_f (fun z => z.2.2.1 c2)]
      · rw [fi_neg c2]
        by_cases c3 : 0 ≤ lg_cmp (lN (nmV X (t + 56 * k + 24) 8)) (lN (nmV X (t + 56 * q + 24) 8) + lN (nmV X (t + 56 * q + 40) 8))
        · rw [fi_pos c3, bz_f (fun z => z.2.2.2.1 c3)]
        · rw [fi_neg c3]
          by_cases c4 : 0 ≤ lg_cmp (lN (nmV X (t + 56 * q + 24) 8)) (lN (nmV X (t + 56 * k + 24) 8) + lN (nmV X (t + 56 * k + 40) 8))
          · rw [fi_pos c4, bz_f (fun z => z.2.2.2.2 c4)]
          · rw [fi_neg c4, bz_t ⟨c0, c1, c2, c3, c4⟩]
  · rw [fi_neg c0, bz_f (fun z => c0 z.1)]
theorem sg_L (V : LdV l M X n) (ht : t + 56 * k + 56 ≤ 65536) (hk : k ≤ 16) : ∀ m j q, q + m = k → m < j → (∀ o, o < q → ¬ sgP X (t + 56 * k) (t + 56 * o)) →
    FX90_segmentFault_L158 fN j l (lN t) (nI k) (nI q) M = some (nI (fi (∃ o, o < k ∧ sgP X (t + 56 * k) (t + 56 * o)) 7 0), M) := by
  intro m
  induction m with
  | zero =>
    intro j q hq hj hn
    obtain ⟨j, rfl⟩ : ∃ y, j = y + 1 := ⟨j - 1, by omega⟩
    have c1 : nI k ≤ nI q := (n_le (by omega) (by omega)).mpr (by omega)
    show FX90_segmentFault_158 fN (FX90_segmentFault_L158 fN j) l (lN t) (nI k) (nI q) M = _
    rw [(gX90_segmentFault_158 (FX90_segmentFault_L158 fN j) l (lN t) (nI k) (nI q) M V.1 V.2.1 ⟨fun _ => trivial, fun z => absurd c1 z⟩).1]
    unfold GX90_segmentFault_158
    rw [fi_pos c1, fi_neg (fun ⟨o, h1, h2⟩ => hn o (by omega) h2)]
    rfl
  | succ m ih =>
    intro j q hq hj hn
    obtain ⟨j, rfl⟩ : ∃ y, j = y + 1 := ⟨j - 1, by omega⟩
    have c1 : ¬ nI k ≤ nI q := fun z => by
      have := (n_le (by omega) (by omega)).mp z
      omega
    obtain ⟨p1, g1⟩ := X90_meets (t := t) (k := k) (q := q) V ht hk (by omega)
    show FX90_segmentFault_158 fN (FX90_segmentFault_L158 fN j) l (lN t) (nI k) (nI q) M = _
    rw [(gX90_segmentFault_158 (FX90_segmentFault_L158 fN j) l (lN t) (nI k) (nI q) M V.1 V.2.1 ⟨fun z => absurd z c1, fun _ => ⟨p1, trivial⟩⟩).1]
    unfold GX90_segmentFault_158
    dsimp only
    rw [fi_neg c1, g1]
    dsimp only
    rw [fi_bz, show nI q + Int32.ofInt 1 = nI (q + 1) from nI_a (n := 1)]
    by_cases h : sgP X (t + 56 * k) (t + 56 * q)
    · rw [fi_pos h, fi_pos ⟨q, by omega, h⟩]
      rfl
    · rw [fi_neg h]
      refine ih j (q + 1) (by omega) (by omega) (fun o ho => ?_)
      by_cases e : o = q
      · rw [e]; exact h
      · exact hn o (by omega)
theorem X90_sgF (V : LdV l M X n) (ht : t + 56 * k + 56 ≤ 65536) (hk : k ≤ 16) : HX90_segmentFault l (lN t) (nI k) M ∧ GX90_segmentFault l (lN t) (nI k) M = (nI (sgF X n t k), M) := by
  have hb := V.2.2.2.1.1
  have e1 := ad_k (t := t) (k := k) (by omega) hk
  obtain ⟨p1, g1⟩ := nu (s := 8) V (a1 := (lN t + (Int32.ofInt 56 * nI k).toInt64) + Int64.ofInt 32) (a := t + 56 * k + 32) (by rw [e1]; exact ad_d (by omega) (by decide)) (by decide) (by omega)
  obtain ⟨p2, g2⟩ := nu (s := 8) V (a1 := (lN t + (Int32.ofInt 56 * nI k).toInt64) + Int64.ofInt 40) (a := t + 56 * k + 40) (by rw [e1]; exact ad_d (by omega) (by decide)) (by decide) (by omega)
  obtain ⟨p3, g3⟩ := nu (s := 8) V (a1 := (lN t + (Int32.ofInt 56 * nI k).toInt64) + Int64.ofInt 24) (a := t + 56 * k + 24) (by rw [e1]; exact ad_d (by omega) (by decide)) (by decide) (by omega)
  obtain ⟨p4, g4⟩ := nu (s := 8) V (a1 := (lN t + (Int32.ofInt 56 * nI k).toInt64) + Int64.ofInt 8) (a := t + 56 * k + 8) (by rw [e1]; exact ad_d (by omega) (by decide)) (by decide) (by omega)
  have g1 : GX90_number l ((lN t + (Int32.ofInt 56 * nI k).toInt64) + Int64.ofInt 32) (Int32.ofInt 8) M = _ := g1
  have g2 : GX90_number l ((lN t + (Int32.ofInt 56 * nI k).toInt64) + Int64.ofInt 40) (Int32.ofInt 8) M = _ := g2
  have g3 : GX90_number l ((lN t + (Int32.ofInt 56 * nI k).toInt64) + Int64.ofInt 24) (Int32.ofInt 8) M = _ := g3
  have g4 : GX90_number l ((lN t + (Int32.ofInt 56 * nI k).toInt64) + Int64.ofInt 8) (Int32.ofInt 8) M = _ := g4
  have u1 := nm_8 hb (t + 56 * k + 32)
  have u2 := nm_8 hb (t + 56 * k + 40)
  have u4 := nm_8 hb (t + 56 * k + 8)
  have ft := X90_fits (M := M) (n := n) (a := nmV X (t + 56 * k + 8) 8) (b := nmV X (t + 56 * k + 32) 8) V.2.2.2.1.2 u4 u1
  have sz : M.1 262 (M.2.2 186 l 0) 0 = nI n := V.2.2.1.2.2.1
  have L := sg_L V ht hk k fN 0 (by omega) (by unfold fN; omega) (fun o ho => absurd ho (Nat.not_lt_zero o))
  have kk : lg_cmp (lN (nmV X (t + 56 * k + 40) 8)) (Int64.ofInt 0) = 0 ↔ nmV X (t + 56 * k + 40) 8 = 0 := lgE (v := nmV X (t + 56 * k + 40) 8) (c := 0) u2 (by decide)
  have kn := lgN u2
  have kb : 0 < lg_cmp (lN (nmV X (t + 56 * k + 40) 8)) (Int64.ofInt 4194304) → ¬ inR (lN (nmV X (t + 56 * k + 24) 8)) (nmV X (t + 56 * k + 40) 8) := fun z y => by
    rw [cl_gt, tl (lN (nmV X (t + 56 * k + 40) 8)), lN_m _ u2, show (Int64.ofInt 4194304).toInt = 4194304 from rfl] at z
    unfold inR at y
    split at z <;> omega
  have hs : ¬ lg_cmp (lN (nmV X (t + 56 * k + 40) 8)) (Int64.ofInt 0) < 0 → ¬ 0 < lg_cmp (lN (nmV X (t + 56 * k + 40) 8)) (Int64.ofInt 4194304) → GX11_has (M.2.2 187 l 0) (lN (nmV X (t + 56 * k + 24) 8)) (lN (nmV X (t + 56 * k + 40) 8)) M = (bz (inR (lN (nmV X (t + 56 * k + 24) 8)) (nmV X (t + 56 * k + 40) 8)), M) := fun z1 z2 => by
    have z3 : nmV X (t + 56 * k + 40) 8 < 1152921504606846976 := by
      rw [kn] at z1
      rw [cl_gt, tl (lN (nmV X (t + 56 * k + 40) 8)), lN_m _ u2, show (Int64.ofInt 4194304).toInt = 4194304 from rfl, if_pos (by omega)] at z2
      omega
    rw [X11_has V.2.2.2.2 (by rw [lN_m _ u2]; exact z3), lN_m _ u2]
  have H78 : ∀ s0, HX90_segmentFault_78 l (lN t) (nI k) (lN t + (Int32.ofInt 56 * nI k).toInt64) (lN (nmV X (t + 56 * k + 32) 8)) (lN (nmV X (t + 56 * k + 40) 8)) (lN (nmV X (t + 56 * k + 24) 8)) s0 M := fun s0 => ⟨p4, trivial⟩
  -- the tail, by whether the file is larger
  have G78 : ∀ P : Prop, (P ↔ nmV X (t + 56 * k + 40) 8 < nmV X (t + 56 * k + 32) 8 ∨ ¬ fitP (nmV X (t + 56 * k + 8) 8) (nmV X (t + 56 * k + 32) 8) n ∧ P) →
      kX90_segmentFault (FX90_segmentFault_L158 fN fN) (GX90_segmentFault_78 l (lN t) (nI k) (lN t + (Int32.ofInt 56 * nI k).toInt64) (lN (nmV X (t + 56 * k + 32) 8)) (lN (nmV X (t + 56 * k + 40) 8)) (lN (nmV X (t + 56 * k + 24) 8)) (bz P) M) = some (nI (sgF X n t k), M) := by
    intro P hP
    unfold GX90_segmentFault_78
    dsimp only
    rw [g4]
    dsimp only
    rw [sz, ft]
    dsimp only
    rw [fi_bz, fi_bz]
    unfold sgF
    by_cases c0 : fitP (nmV X (t + 56 * k + 8) 8) (nmV X (t + 56 * k + 32) 8) n
    · rw [fi_pos c0]
      by_cases c1 : nmV X (t + 56 * k + 40) 8 < nmV X (t + 56 * k + 32) 8
      · rw [fi_pos (hP.mpr (Or.inl c1)), fi_pos (Or.inr c1)]
        rfl
      · have nP : ¬ P := fun z => by
          rcases hP.mp z with y | y
          · exact c1 y
          · exact y.1 c0
        rw [fi_neg nP, fi_neg (not_or.mpr ⟨not_not_intro c0, c1⟩)]
        have done : kX90_segmentFault (FX90_segmentFault_L158 fN fN) (GX90_segmentFault_155 l (lN t) (nI k) M) = some (nI (fi (∃ o, o < k ∧ sgP X (t + 56 * k) (t + 56 * o)) 7 0), M) := L
        by_cases c2 : nmV X (t + 56 * k + 40) 8 = 0
        · rw [fi_pos (kk.mpr c2), fi_neg (fun z => z.1 c2)]
          exact done
        · rw [fi_neg (fun z => c2 (kk.mp z))]
          by_cases c3 : lg_cmp (lN (nmV X (t + 56 * k + 40) 8)) (Int64.ofInt 0) < 0
          · have ni : ¬ inR (lN (nmV X (t + 56 * k + 24) 8)) (nmV X (t + 56 * k + 40) 8) := fun y => by
              have := kn.mp c3
              unfold inR at y
              omega
            rw [fi_pos c3, fi_pos ⟨c2, ni⟩]
            rfl
          · rw [fi_neg c3]
            by_cases c4 : 0 < lg_cmp (lN (nmV X (t + 56 * k + 40) 8)) (Int64.ofInt 4194304)
            · rw [fi_pos c4, fi_pos ⟨c2, kb c4⟩]
              rfl
            · rw [fi_neg c4, hs c3 c4]
              dsimp only
              rw [fi_bz]
              by_cases c5 : inR (lN (nmV X (t + 56 * k + 24) 8)) (nmV X (t + 56 * k + 40) 8)
              · rw [fi_pos c5, fi_neg (fun z => z.2 c5)]
                exact done
              · rw [fi_neg c5, fi_pos ⟨c2, c5⟩]
                rfl
    · rw [fi_neg c0, fi_pos (Or.inl c0)]
      rfl
  have Ax : FX90_segmentFault fN l (lN t) (nI k) M = some (nI (sgF X n t k), M) := by
    show FX90_segmentFault_0 fN (FX90_segmentFault_L158 fN fN) l (lN t) (nI k) M = _
    have H0 : HX90_segmentFault_0 l (lN t) (nI k) M := by
      unfold HX90_segmentFault_0
      dsimp only
      rw [g1]
      dsimp only
      rw [g2]
      dsimp only
      rw [g3]
      exact ⟨p1, p2, p3, fun _ => H78 _, fun _ => ⟨fun _ => H78 _, fun _ => ⟨fun _ => H78 _, fun _ => H78 _⟩⟩⟩
    rw [(gX90_segmentFault_0 (FX90_segmentFault_L158 fN fN) l (lN t) (nI k) M V.1 V.2.1 H0).1]
    unfold GX90_segmentFault_0
    dsimp only
    rw [g1]
    dsimp only
    rw [g2]
    dsimp only
    rw [g3]
    dsimp only
    have G0 := G78 False
    have G1 := G78 True
    rw [← bz0] at G0
    rw [← bz1] at G1
    unfold GX90_segmentFault_73 GX90_segmentFault_77
    by_cases c1 : lg_cmp (lN (nmV X (t + 56 * k + 32) 8)) (Int64.ofInt 0) < 0
    · rw [fi_pos c1]
      refine G1 ⟨fun _ => Or.inr ⟨fun z => ?_, trivial⟩, fun _ => trivial⟩
      have := (lgN u1).mp c1
      have hn := V.2.2.2.1.2
      unfold fitP at z
      omega
    · rw [fi_neg c1]
      have f1 : ¬ 9223372036854775808 ≤ nmV X (t + 56 * k + 32) 8 := fun z => c1 ((lgN u1).mpr z)
      by_cases c2 : lg_cmp (lN (nmV X (t + 56 * k + 40) 8)) (Int64.ofInt 0) < 0
      · rw [fi_pos c2]
        refine G0 ⟨fun z => z.elim, fun z => ?_⟩
        rcases z with z | z
        · have := kn.mp c2
          omega
        · exact z.2
      · rw [fi_neg c2]
        have f2 : ¬ 9223372036854775808 ≤ nmV X (t + 56 * k + 40) 8 := fun z => c2 (kn.mpr z)
        have k3 : lg_cmp (lN (nmV X (t + 56 * k + 32) 8)) (lN (nmV X (t + 56 * k + 40) 8)) ≤ 0 ↔ ¬ nmV X (t + 56 * k + 40) 8 < nmV X (t + 56 * k + 32) 8 := by
          rw [cl_le, tl, tl, lN_m _ u1, lN_m _ u2, if_pos (by omega), if_pos (by omega)]
          omega
        by_cases c3 : lg_cmp (lN (nmV X (t + 56 * k + 32) 8)) (lN (nmV X (t + 56 * k + 40) 8)) ≤ 0
        · rw [fi_pos c3]
          refine G0 ⟨fun z => z.elim, fun z => ?_⟩
          rcases z with z | z
          · exact k3.mp c3 z
          · exact z.2
        · rw [fi_neg c3]
          refine G1 ⟨fun _ => Or.inl ?_, fun _ => trivial⟩
          rcases Nat.lt_or_ge (nmV X (t + 56 * k + 40) 8) (nmV X (t + 56 * k + 32) 8) with y | y
          · exact y
          · exact absurd (k3.mpr (by omega)) c3
  exact op_of (d := ((0 : Int32), M)) Ax (P := OkR M) ⟨V.1, ext_r M⟩
end Lf
