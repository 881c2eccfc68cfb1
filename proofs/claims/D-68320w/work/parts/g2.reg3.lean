/-! regions: what the component lets -/
set_option maxRecDepth 100000
section Bc
variable {n k : Nat}
end Bc
/-- the right that an access asks -/
noncomputable def rgt (ac : Int32) : Nat := fi (ac = 0) 2 (fi (ac = Int32.ofInt 1) 0 1)
def tchP (f t a s : Nat) : Prop := f < t ∧ a < t ∧ f < a + s
def letP (f t a s : Nat) (c ac md : Int32) : Prop := (f ≤ a ∧ a + s ≤ t) ∧ ((md = Int32.ofInt 3 ∧ ¬ ib c 7 = true) ∨ ib c (rgt ac) = true)
noncomputable def letS (F T : Nat → Nat) (cf : Nat → Int32) (a s : Nat) (ac md : Int32) : Nat → Nat → Prop
  | 0, _ => md = Int32.ofInt 3
  | d + 1, i => fi (tchP (F i) (T i) a s) (letP (F i) (T i) a s (cf i) ac md) (letS F T cf a s ac md d (i + 1))
def covR (K : Rg) (F T : Nat → Nat) : Prop := ∀ i, i < 8 → covP (K.1 i) (K.2 i) (pv K i) (F i) (T i)
/-- the component's region -/
def rgn (g i : Nat) (M : FM) : Nat := M.2.2 3 (M.2.2 284 g 0) i
def VGc (g : Nat) (M : FM) (K : Rg) : Prop := ∀ i, i < 8 → M.1 280 (rgn g i M) 0 = K.1 i ∧ M.2.1 281 (rgn g i M) 0 = lN (K.2 i) ∧ ∃ f t, covP (K.1 i) (K.2 i) (pv K i) f t ∧ M.2.1 282 (rgn g i M) 0 = lN f ∧ M.2.1 283 (rgn g i M) 0 = lN t
section Lc
variable {r a s f t : Nat} {M : FM} {c ac md : Int32}
theorem X87_isLocked (hc : M.1 280 r 0 = c) : GX87_isLocked r M = (bz (ib c 7 = true), M) := by
  unfold GX87_isLocked GX87_isLocked_0 GX87_isLocked_16
  rw [hc, propext (and_0 (x := c) (v := Int32.ofInt 128) (j := 7) (by decide) rfl)]
  by_cases h : ib c 7 = true
  · rw [fi_neg (fun q => q h), bz_t h]
  · rw [fi_pos h, bz_f h]
theorem X87_touches (h1 : M.2.1 282 r 0 = lN f) (h2 : M.2.1 283 r 0 = lN t) (hf : f < 2 ^ 56) (ht : t < 2 ^ 58) (ha : a < 2 ^ 57) (hs : s < 4096) : GX87_touches r (lN a) (nI s) M = (bz (tchP f t a s), M) := by
  have p : (2 : Nat) ^ 56 = 72057594037927936 ∧ (2 : Nat) ^ 57 = 144115188075855872 ∧ (2 : Nat) ^ 58 = 288230376151711744 ∧ (2 : Nat) ^ 63 = 9223372036854775808 := by decide
  obtain ⟨p1, p2, p3, p4⟩ := p
  unfold GX87_touches GX87_touches_0 GX87_touches_37 GX87_touches_38
  rw [h1, h2, o_64 (by omega), l_a (by omega), propext (b_ge (n := f) (k := t) (by omega) (by omega)), propext (b_ge (n := a) (k := t) (by omega) (by omega)), propext (b_le (n := a + s) (k := f) (by omega) (by omega))]
  unfold tchP
  by_cases q1 : t ≤ f
  · rw [fi_pos q1, bz_f (by omega)]
  · rw [fi_neg q1]
    by_cases q2 : t ≤ a
    · rw [fi_pos q2, bz_f (by omega)]
    · rw [fi_neg q2]
      by_cases q3 : a + s ≤ f
      · rw [fi_pos q3, bz_f (by omega)]
      · rw [fi_neg q3, bz_t (by omega)]
theorem X87_lets (hc : M.1 280 r 0 = c) (h1 : M.2.1 282 r 0 = lN f) (h2 : M.2.1 283 r 0 = lN t) (hf : f < 2 ^ 56) (ht : t < 2 ^ 58) (ha : a < 2 ^ 57) (hs : s < 4096) : GX87_lets r (lN a) (nI s) ac md M = (bz (letP f t a s c ac md), M) := by
  have p : (2 : Nat) ^ 56 = 72057594037927936 ∧ (2 : Nat) ^ 57 = 144115188075855872 ∧ (2 : Nat) ^ 58 = 288230376151711744 ∧ (2 : Nat) ^ 63 = 9223372036854775808 := by decide
  obtain ⟨p1, p2, p3, p4⟩ := p
  have e68 : ∀ {v : Int32} {j : Nat}, j < 32 → ui v = 2 ^ j → GX87_lets_68 r v M = (bz (ib c j = true), M) := fun {v j} hj hv => by
    unfold GX87_lets_68 GX87_lets_82 GX87_lets_78 GX87_lets_83
    rw [hc, propext (and_0 (x := c) hj hv)]
    by_cases h : ib c j = true
    · rw [fi_neg (fun q => q h), bz_t h]
    · rw [fi_pos h, bz_f h]
  have e48 : ∀ {v : Int32} {j : Nat} {al : Prop}, j < 32 → ui v = 2 ^ j → GX87_lets_48 r md (bz al) v M = (bz (al ∧ ((md = Int32.ofInt 3 ∧ ¬ ib c 7 = true) ∨ ib c j = true)), M) := fun {v j al} hj hv => by
    unfold GX87_lets_48
    rw [fi_bz, X87_isLocked hc]
    dsimp only
    rw [fi_bz, e68 hj hv]
    unfold GX87_lets_82 GX87_lets_78 GX87_lets_83
    by_cases h : al
    · rw [fi_pos h]
      by_cases h3 : md = Int32.ofInt 3
      · rw [fi_pos h3]
        by_cases h7 : ib c 7 = true
        · rw [fi_pos h7]
          exact congrArg (fun z => (z, M)) (bz_c ⟨fun q => ⟨h, Or.inr q⟩, fun q => q.2.resolve_left (fun z => z.2 h7)⟩)
        · rw [fi_neg h7, bz_t ⟨h, Or.inl ⟨h3, h7⟩⟩]
      · rw [fi_neg h3]
        exact congrArg (fun z => (z, M)) (bz_c ⟨fun q => ⟨h, Or.inr q⟩, fun q => q.2.resolve_left (fun z => h3 z.1)⟩)
    · rw [fi_neg h, bz_f (fun q => h q.1)]
  have e26 : ∀ {al : Prop}, GX87_lets_26 r ac md (bz al) M = (bz (al ∧ ((md = Int32.ofInt 3 ∧ ¬ ib c 7 = true) ∨ ib c (rgt ac) = true)), M) := fun {al} => by
    unfold GX87_lets_26 rgt
    by_cases h : ac = 0
    · rw [fi_pos h, fi_pos h]
      exact e48 (by decide) rfl
    · rw [fi_neg h, fi_neg h]
      by_cases h' : ac = Int32.ofInt 1
      · rw [fi_pos h', fi_pos h']
        exact e48 (by decide) rfl
      · rw [fi_neg h', fi_neg h']
        exact e48 (by decide) rfl
  unfold GX87_lets GX87_lets_0 GX87_lets_25
  rw [h1, h2, o_64 (by omega), l_a (by omega), propext (b_lt (n := a) (k := f) (by omega) (by omega)), propext (b_gt (n := a + s) (k := t) (by omega) (by omega))]
  unfold letP
  by_cases q1 : a < f
  · rw [fi_pos q1, ← bz_f (show ¬ (f ≤ a ∧ a + s ≤ t) by omega)]
    exact e26
  · rw [fi_neg q1]
    by_cases q2 : t < a + s
    · rw [fi_pos q2, ← bz_f (show ¬ (f ≤ a ∧ a + s ≤ t) by omega)]
      exact e26
    · rw [fi_neg q2, ← bz_t (show f ≤ a ∧ a + s ≤ t by omega)]
      exact e26
end Lc
section Ld
variable {g a s : Nat} {M : FM} {ac md : Int32} {K : Rg} {F T : Nat → Nat}
theorem X86_let_L (Tm : Ty M) (n : fm_is M 90 90 g = true) (V : VGc g M K) (I : VGi K) (C : covR K F T) (ha : a < 2 ^ 57) (hs : s < 4096) : ∀ (d i J : Nat), i + d = 8 → d < J →
    FX86_let_L14 fN J (lN a) (nI s) ac md (M.2.2 284 g 0) (Int32.ofNat 8) (nI i) M = some (bz (letS F T K.1 a s ac md d i), M) := by
  have n9 : fm_is M 927 927 (M.2.2 284 g 0) = true := tN_284 Tm.1 n
  have e8 : Int32.ofNat 8 = Int32.ofInt 8 := rfl
  intro d
  induction d with
  | zero =>
    intro i J hi hJ
    obtain ⟨J, rfl⟩ : ∃ x, J = x + 1 := ⟨J - 1, by omega⟩
    have h8 : Int32.ofNat 8 ≤ nI i := by rw [e8]; exact (nge (by omega) 8 (by decide)).mpr (by omega)
    show FX86_let_14 fN (FX86_let_L14 fN J) (lN a) (nI s) ac md (M.2.2 284 g 0) (Int32.ofNat 8) (nI i) M = _
    rw [(gX86_let_14 (FX86_let_L14 fN J) _ _ _ _ _ _ _ M Tm n9 ⟨fun _ => trivial, fun q => absurd h8 q⟩).1]
    unfold GX86_let_14 GX86_let_67 letS
    rw [fi_pos h8]
    by_cases h : md = Int32.ofInt 3
    · rw [fi_pos h, bz_t h]
      rfl
    · rw [fi_neg h, bz_f h]
      rfl
  | succ d ih =>
    intro i J hi hJ
    obtain ⟨J, rfl⟩ : ∃ x, J = x + 1 := ⟨J - 1, by omega⟩
    have h8 : ¬ Int32.ofNat 8 ≤ nI i := by rw [e8]; exact fun q => by have := (nge (by omega) 8 (by decide)).mp q; omega
    have inn : fm_in M (M.2.2 284 g 0) (nI i) = true := in_nI (tL_284 Tm.1 n) (by omega) (by decide)
    obtain ⟨v1, v2, f, t, v3, v4, v5⟩ := V i (by omega)
    obtain ⟨u1, u2⟩ := cov_u v3 (C i (by omega))
    obtain ⟨w1, w2⟩ := cov_lt (I i (by omega)).1 (pv_lt I (by omega)) v3
    have x1 : M.2.2 3 (M.2.2 284 g 0) i = rgn g i M := rfl
    show FX86_let_14 fN (FX86_let_L14 fN J) (lN a) (nI s) ac md (M.2.2 284 g 0) (Int32.ofNat 8) (nI i) M = _
    rw [(gX86_let_14 (FX86_let_L14 fN J) _ _ _ _ _ _ _ M Tm n9 ⟨fun _ => trivial, fun _ => ⟨inn, trivial⟩⟩).1]
    unfold GX86_let_14 letS
    dsimp only
    rw [fi_neg h8, o_cl (by omega), x1, X87_touches v4 v5 w1 w2 ha hs]
    dsimp only
    rw [fi_bz, ← u1, ← u2]
    by_cases h : tchP f t a s
    · rw [fi_pos h, fi_pos h, X87_lets v1 v4 v5 w1 w2 ha hs]
      rfl
    · rw [fi_neg h, fi_neg h, up_1 (by omega)]
      exact ih (i + 1) J (by omega) (by omega)
theorem X86_let (Tm : Ty M) (n : fm_is M 90 90 g = true) (V : VGc g M K) (I : VGi K) (C : covR K F T) (ha : a < 2 ^ 57) (hs : s < 4096) :
    HX86_let g (lN a) (nI s) ac md M ∧ GX86_let g (lN a) (nI s) ac md M = (bz (letS F T K.1 a s ac md 8 0), M) := by
  refine op_of (o := FX86_let fN g (lN a) (nI s) ac md M) ?_ ⟨Tm, ext_r M, bz_z _⟩
  have G0 := (gX86_let_0 (FX86_let_L14 fN fN) g (lN a) (nI s) ac md M Tm n).1
  unfold GX86_let_0 at G0
  dsimp only at G0
  rw [tL_284 Tm.1 n] at G0
  exact G0.trans (X86_let_L Tm n V I C ha hs 8 0 fN rfl (by decide))
end Ld
