/-! regions: what the twin lets -/
set_option maxRecDepth 100000
/-- how many of the first k bytes from a stand in what is covered -/
def cntB (f t a : Nat) : Nat → Nat
  | 0 => 0
  | k + 1 => cntB f t a k + (if f ≤ a + k ∧ a + k < t then 1 else 0)
theorem cnt_le (f t a : Nat) : ∀ k, cntB f t a k ≤ k
  | 0 => Nat.le_refl _
  | k + 1 => by
    have := cnt_le f t a k
    unfold cntB
    split <;> omega
theorem cnt_0 (f t a : Nat) : ∀ k, 0 < cntB f t a k ↔ 0 < k ∧ tchP f t a k
  | 0 => ⟨fun q => absurd q (Nat.lt_irrefl 0), fun q => absurd q.1 (Nat.lt_irrefl 0)⟩
  | k + 1 => by
    have ih := cnt_0 f t a k
    unfold tchP at *
    unfold cntB
    split
    · constructor
      · intro _; omega
      · intro _; omega
    · rw [Nat.add_zero, ih]
      omega
theorem cnt_n (f t a : Nat) : ∀ k, cntB f t a k = k ↔ k = 0 ∨ f ≤ a ∧ a + k ≤ t
  | 0 => ⟨fun _ => Or.inl rfl, fun _ => rfl⟩
  | k + 1 => by
    have ih := cnt_n f t a k
    have := cnt_le f t a k
    unfold cntB
    split
    · constructor
      · intro e
        have := ih.mp (by omega)
        omega
      · intro e
        have := ih.mpr (by omega)
        omega
    · constructor
      · intro e; omega
      · intro e; omega
section Ti
variable {w a s : Nat} {M : FM} {ac md : Int32} {K : Rg} {F T : Nat → Nat}
theorem il_95 (Tm : Ty M) (n : fm_is M 101 101 w = true) (V : VGt w M K) (hs : s < 4096) {i k b : Nat} (hi : i < 8) (hk : k < 4096) (hb : b < 32) :
    HX101_isLet_95 w md (nI s) (nI i) (nI k) (nI b) M ∧ GX101_isLet_95 w md (nI s) (nI i) (nI k) (nI b) M = .inr (.inr (bz (k = s ∧ ((md = Int32.ofInt 3 ∧ ¬ ib (K.1 i) 7 = true) ∨ ib (K.1 i) b = true)), M)) := by
  have h7 := X101_has n Tm V hi (nI 7)
  have hbb := X101_has n Tm V hi (nI b)
  rw [bit_1 (by decide), show (bz (ib (K.1 i) 7 = true) = Int32.ofInt 1) = (ib (K.1 i) 7 = true) from propext bz_i1] at h7
  rw [bit_1 hb, show (bz (ib (K.1 i) b = true) = Int32.ofInt 1) = (ib (K.1 i) b = true) from propext bz_i1] at hbb
  obtain ⟨a1, a2⟩ := h7
  obtain ⟨b1, b2⟩ := hbb
  have ks : nI k = nI s ↔ k = s := ⟨nI_j hk hs, fun q => by rw [q]⟩
  constructor
  · unfold HX101_isLet_95 HX101_isLet_121
    rw [show Int32.ofInt 7 = nI 7 from rfl]
    dsimp only
    rw [a2]
    exact ⟨fun _ => ⟨fun _ => ⟨a1, fun _ => trivial, fun _ => ⟨b1, trivial⟩⟩, fun _ => ⟨b1, trivial⟩⟩, fun _ => trivial⟩
  · unfold GX101_isLet_95 GX101_isLet_121 GX101_isLet_136 GX101_isLet_132 GX101_isLet_137
    rw [show Int32.ofInt 7 = nI 7 from rfl]
    dsimp only
    rw [a2, b2]
    dsimp only
    rw [fi_bz, fi_bz, propext ks]
    by_cases h : k = s
    · rw [fi_pos h]
      by_cases h3 : md = Int32.ofInt 3
      · rw [fi_pos h3]
        by_cases h7 : ib (K.1 i) 7 = true
        · rw [fi_pos h7]
          by_cases hr : ib (K.1 i) b = true
          · rw [fi_pos hr, bz_t ⟨h, Or.inr hr⟩]
          · rw [fi_neg hr, bz_f (fun q => q.2.elim (fun z => z.2 h7) hr)]
        · rw [fi_neg h7, bz_t ⟨h, Or.inl ⟨h3, h7⟩⟩]
      · rw [fi_neg h3]
        by_cases hr : ib (K.1 i) b = true
        · rw [fi_pos hr, bz_t ⟨h, Or.inr hr⟩]
        · rw [fi_neg hr, bz_f (fun q => q.2.elim (fun z => h3 z.1) hr)]
    · rw [fi_neg h, bz_f (fun q => h q.1)]
/-- the loop over bytes, and then what comes -/
theorem il_22 {f t : Nat} (Tm : Ty M) (n : fm_is M 101 101 w = true) (V : VGt w M K) (h1 : M.2.1 429 w 0 = lN f) (h2 : M.2.1 430 w 0 = lN t) (hf : f < 2 ^ 56) (ht : t < 2 ^ 58) (ha : a < 2 ^ 57) (hs : 0 < s ∧ s < 4096) {i : Nat} (hi : i < 8) {R : Option (Int32 × FM)} {x : Nat} (hR : ¬ tchP f t a s → (FX101_isLet_L fN x).1 w (lN a) ac md (nI s) (nI (i + 1)) M = R) (hT : tchP f t a s → R = some (bz (letP f t a s (K.1 i) ac md), M)) :
    ∀ (d k : Nat), k + d = s → (FX101_isLet_L fN (x + (d + 1))).2 w (lN a) ac md (nI s) (nI i) (nI (cntB f t a k)) (nI k) M = R := by
  have p : (2 : Nat) ^ 56 = 72057594037927936 ∧ (2 : Nat) ^ 57 = 144115188075855872 ∧ (2 : Nat) ^ 58 = 288230376151711744 ∧ (2 : Nat) ^ 63 = 9223372036854775808 := by decide
  obtain ⟨p1, p2, p3, p4⟩ := p
  have L95 := fun {k b : Nat} (hk : k < 4096) (hb : b < 32) => il_95 (md := md) Tm n V hs.2 hi hk hb
  intro d
  induction d with
  | zero =>
    intro k hk
    let J := x
    have e : k = s := by omega
    subst e
    have cl := cnt_le f t a k
    have hH : HX101_isLet_22 w (lN a) ac md (nI k) (nI i) (nI (cntB f t a k)) (nI k) M :=
      ⟨fun _ => ⟨fun _ => trivial, fun _ => ⟨fun _ => (L95 (b := 2) (by omega) (by decide)).1, fun _ => ⟨fun _ => (L95 (b := 0) (by omega) (by decide)).1, fun _ => (L95 (b := 1) (by omega) (by decide)).1⟩⟩⟩, fun _ => trivial⟩
    show FX101_isLet_22 fN (FX101_isLet_L fN J).1 (FX101_isLet_L fN J).2 w (lN a) ac md (nI k) (nI i) (nI (cntB f t a k)) (nI k) M = R
    rw [(gX101_isLet_22 (FX101_isLet_L fN J).1 (FX101_isLet_L fN J).2 _ _ _ _ _ _ _ _ M Tm n hH).1]
    unfold GX101_isLet_22
    dsimp only
    rw [fi_pos (show nI k ≤ nI k from Int32.le_refl _), propext (nle0 (n := cntB f t a k) (by omega))]
    have c0 := cnt_0 f t a k
    by_cases z : cntB f t a k = 0
    · rw [fi_pos (by omega), up_1 (by omega)]
      exact hR (fun q => by have := c0.mpr ⟨hs.1, q⟩; omega)
    · have tch : tchP f t a k := (c0.mp (by omega)).2
      rw [fi_neg (by omega), hT tch]
      have cn : cntB f t a k = k ↔ (f ≤ a ∧ a + k ≤ t) := by rw [cnt_n]; omega
      have fin : ∀ b, rgt ac = b → b < 32 → kX101_isLet (FX101_isLet_L fN J).1 (FX101_isLet_L fN J).2 (GX101_isLet_95 w md (nI k) (nI i) (nI (cntB f t a k)) (nI b) M) = some (bz (letP f t a k (K.1 i) ac md), M) := fun b e1 e2 => by
        rw [(L95 (by omega) e2).2, propext cn]
        unfold letP
        rw [e1]
        rfl
      by_cases h : ac = 0
      · rw [fi_pos h]
        exact fin 2 (by unfold rgt; rw [fi_pos h]) (by decide)
      · rw [fi_neg h]
        by_cases h' : ac = Int32.ofInt 1
        · rw [fi_pos h']
          exact fin 0 (by unfold rgt; rw [fi_neg h, fi_pos h']) (by decide)
        · rw [fi_neg h']
          exact fin 1 (by unfold rgt; rw [fi_neg h, fi_neg h']) (by decide)
  | succ d ih =>
    intro k hk
    let J := x + (d + 1)
    have cl := cnt_le f t a k
    have sk : ¬ nI s ≤ nI k := fun q => by
      rw [le_ti, ti, ti, ui_nI, ui_nI, Nat.mod_eq_of_lt (by omega), Nat.mod_eq_of_lt (by omega), if_pos (by omega), if_pos (by omega)] at q
      omega
    show FX101_isLet_22 fN (FX101_isLet_L fN J).1 (FX101_isLet_L fN J).2 w (lN a) ac md (nI s) (nI i) (nI (cntB f t a k)) (nI k) M = R
    rw [(gX101_isLet_22 (FX101_isLet_L fN J).1 (FX101_isLet_L fN J).2 _ _ _ _ _ _ _ _ M Tm n ⟨fun q => absurd q sk, fun _ => trivial⟩).1]
    unfold GX101_isLet_22 GX101_isLet_62 GX101_isLet_64
    dsimp only
    rw [fi_neg sk, o_64 (by omega), l_a (by omega), h1, h2, propext (b_lt (n := a + k) (k := f) (by omega) (by omega)), propext (b_ge (n := a + k) (k := t) (by omega) (by omega)), up_1 (s := k) (by omega), up_1 (s := cntB f t a k) (by omega)]
    have go := ih (k + 1) (by omega)
    unfold cntB at go
    by_cases q1 : a + k < f
    · rw [if_neg (by omega)] at go
      rw [fi_pos q1]
      exact go
    · rw [fi_neg q1]
      by_cases q2 : t ≤ a + k
      · rw [if_neg (by omega)] at go
        rw [fi_pos q2]
        exact go
      · rw [if_pos (by omega)] at go
        rw [fi_neg q2]
        exact go
theorem il_3 (hs : 0 < s ∧ s < 4096) (I : VGi K) (C : covR K F T) (ha : a < 2 ^ 57) : ∀ (d i J : Nat) (M : FM), Ty M → fm_is M 101 101 w = true → VGt w M K → i + d = 8 → d * (s + 2) < J →
    ∃ M', (FX101_isLet_L fN J).1 w (lN a) ac md (nI s) (nI i) M = some (bz (letS F T K.1 a s ac md d i), M') ∧ FrW w M M' := by
  intro d
  induction d with
  | zero =>
    intro i J M Tm n V hi hJ
    obtain ⟨J, rfl⟩ : ∃ x, J = x + 1 := ⟨J - 1, by omega⟩
    have h8 : Int32.ofInt 8 ≤ nI i := (nge (by omega) 8 (by decide)).mpr (by omega)
    refine ⟨M, ?_, frW_r w M⟩
    show FX101_isLet_3 fN (FX101_isLet_L fN J).1 (FX101_isLet_L fN J).2 w (lN a) ac md (nI s) (nI i) M = _
    rw [(gX101_isLet_3 (FX101_isLet_L fN J).1 (FX101_isLet_L fN J).2 _ _ _ _ _ _ M Tm n ⟨fun _ => trivial, fun q => absurd h8 q⟩).1]
    unfold GX101_isLet_3 GX101_isLet_155 letS
    rw [fi_pos h8]
    by_cases h : md = Int32.ofInt 3
    · rw [fi_pos h, bz_t h]
      rfl
    · rw [fi_neg h, bz_f h]
      rfl
  | succ d ih =>
    intro i J M Tm n V hi hJ
    obtain ⟨J, rfl⟩ : ∃ x, J = x + 1 := ⟨J - 1, by omega⟩
    have h8 : ¬ Int32.ofInt 8 ≤ nI i := fun q => by have := (nge (by omega) 8 (by decide)).mp q; omega
    obtain ⟨N, ⟨e1, e2⟩, fr, f, t, g1, g2, g3⟩ := X101_cover n Tm V I (i := i) (by omega)
    obtain ⟨u1, u2⟩ := cov_u g1 (C i (by omega))
    obtain ⟨w1, w2⟩ := cov_lt (I i (by omega)).1 (pv_lt I (by omega)) g1
    have TN := frW_ty fr Tm
    have nN := frW_is fr n
    have VN := frW_V fr V
    obtain ⟨x, rfl⟩ : ∃ x, J = x + (s + 1) := ⟨J - (s + 1), by
      have : (d + 1) * (s + 2) = d * (s + 2) + (s + 2) := Nat.succ_mul _ _
      omega⟩
    have hx : d * (s + 2) < x := by
      have : (d + 1) * (s + 2) = d * (s + 2) + (s + 2) := Nat.succ_mul _ _
      omega
    have stp : ∀ R, (¬ tchP f t a s → (FX101_isLet_L fN x).1 w (lN a) ac md (nI s) (nI (i + 1)) N = R) → (tchP f t a s → R = some (bz (letP f t a s (K.1 i) ac md), N)) →
        (FX101_isLet_L fN (x + (s + 1))).2 w (lN a) ac md (nI s) (nI i) (nI 0) (nI 0) N = R := fun R h1 h2 => by
      have z := il_22 (i := i) (ac := ac) (md := md) (R := R) (x := x) TN nN VN g2 g3 w1 w2 ha hs (by omega) h1 h2 s 0 (by omega)
      rw [show cntB f t a 0 = 0 from rfl] at z
      exact z
    have G3 : FX101_isLet_3 fN (FX101_isLet_L fN (x + (s + 1))).1 (FX101_isLet_L fN (x + (s + 1))).2 w (lN a) ac md (nI s) (nI i) M = (FX101_isLet_L fN (x + (s + 1))).2 w (lN a) ac md (nI s) (nI i) (nI 0) (nI 0) N := by
      rw [(gX101_isLet_3 (FX101_isLet_L fN (x + (s + 1))).1 (FX101_isLet_L fN (x + (s + 1))).2 _ _ _ _ _ _ M Tm n ⟨fun q => absurd q h8, fun _ => ⟨e1, trivial⟩⟩).1]
      unfold GX101_isLet_3
      dsimp only
      rw [fi_neg h8, e2]
      rfl
    show ∃ M', FX101_isLet_3 fN (FX101_isLet_L fN (x + (s + 1))).1 (FX101_isLet_L fN (x + (s + 1))).2 w (lN a) ac md (nI s) (nI i) M = some (bz (letS F T K.1 a s ac md (d + 1) i), M') ∧ FrW w M M'
    rw [G3]
    unfold letS
    rw [← u1, ← u2]
    by_cases h : tchP f t a s
    · rw [fi_pos h]
      exact ⟨N, stp _ (fun q => absurd h q) (fun _ => rfl), fr⟩
    · rw [fi_neg h]
      obtain ⟨X, y1, y2⟩ := ih (i + 1) x N TN nN VN (by omega) hx
      exact ⟨X, stp _ (fun _ => y1) (fun q => absurd q h), frW_t fr y2⟩
theorem X101_isLet (hs : 0 < s ∧ s < 4096) (I : VGi K) (C : covR K F T) (ha : a < 2 ^ 57) {M : FM} (Tm : Ty M) (n : fm_is M 101 101 w = true) (V : VGt w M K) :
    ∃ M', (HX101_isLet w (lN a) ac md (nI s) M ∧ GX101_isLet w (lN a) ac md (nI s) M = (bz (letS F T K.1 a s ac md 8 0), M')) ∧ FrW w M M' := by
  obtain ⟨M', e, fr⟩ := il_3 (ac := ac) (md := md) hs I C ha 8 0 fN M Tm n V rfl (by unfold fN; omega)
  have G0 := (gX101_isLet_0 (FX101_isLet_L fN fN).1 (FX101_isLet_L fN fN).2 w (lN a) ac md (nI s) M Tm).1
  exact ⟨M', op_of (o := FX101_isLet fN w (lN a) ac md (nI s) M) (G0.trans e) ⟨frW_ty fr Tm, frW_ext fr, bz_z _⟩, fr⟩
end Ti
