/-! regions: the twin's books of what is open; the component lays all regions anew -/
set_option maxRecDepth 100000
def opnS (F T : Nat → Nat) (cf : Nat → Int32) (a : Nat) : Nat → Nat → Prop
  | 0, _ => False
  | d + 1, i => ((F i ≤ a ∧ a < T i) ∧ ib (cf i) 1 = true) ∨ (¬ (F i ≤ a ∧ a < T i) ∧ opnS F T cf a d (i + 1))
theorem let_opn {F T : Nat → Nat} {cf : Nat → Int32} {a s : Nat} {md : Int32} (hm : ¬ md = Int32.ofInt 3) {k : Nat} (hk : k < s) : ∀ d i, letS F T cf a s (Int32.ofInt 2) md d i → opnS F T cf (a + k) d i := by
  have r2 : rgt (Int32.ofInt 2) = 1 := by unfold rgt; rw [fi_neg (by decide), fi_neg (by decide)]
  intro d
  induction d with
  | zero => exact fun i h => absurd h hm
  | succ d ih =>
    intro i h
    unfold letS at h
    unfold opnS
    by_cases t : tchP (F i) (T i) a s
    · rw [fi_pos t] at h
      unfold letP at h
      rw [r2] at h
      exact Or.inl ⟨by omega, h.2.resolve_left (fun z => hm z.1)⟩
    · rw [fi_neg t] at h
      unfold tchP at t
      exact Or.inr ⟨by omega, ih (i + 1) h⟩
section Op
variable {w a : Nat} {K : Rg} {F T : Nat → Nat}
theorem io_2 (I : VGi K) (C : covR K F T) (ha : a < 2 ^ 57) : ∀ (d i J : Nat) (M : FM), Ty M → fm_is M 101 101 w = true → VGt w M K → i + d = 8 → d < J →
    ∃ M', FX101_isOpen_L2 fN J w (lN a) (nI i) M = some (bz (opnS F T K.1 a d i), M') ∧ FrW w M M' := by
  have p : (2 : Nat) ^ 56 = 72057594037927936 ∧ (2 : Nat) ^ 57 = 144115188075855872 ∧ (2 : Nat) ^ 58 = 288230376151711744 ∧ (2 : Nat) ^ 63 = 9223372036854775808 := by decide
  obtain ⟨p1, p2, p3, p4⟩ := p
  intro d
  induction d with
  | zero =>
    intro i J M Tm n V hi hJ
    obtain ⟨J, rfl⟩ : ∃ x, J = x + 1 := ⟨J - 1, by omega⟩
    have h8 : Int32.ofInt 8 ≤ nI i := (nge (by omega) 8 (by decide)).mpr (by omega)
    refine ⟨M, ?_, frW_r w M⟩
    show FX101_isOpen_2 fN (FX101_isOpen_L2 fN J) w (lN a) (nI i) M = _
    rw [(gX101_isOpen_2 (FX101_isOpen_L2 fN J) _ _ _ M Tm n ⟨fun _ => trivial, fun q => absurd h8 q⟩).1]
    unfold GX101_isOpen_2 opnS
    rw [fi_pos h8, bz_f (fun q => q)]
    rfl
  | succ d ih =>
    intro i J M Tm n V hi hJ
    obtain ⟨J, rfl⟩ : ∃ x, J = x + 1 := ⟨J - 1, by omega⟩
    have h8 : ¬ Int32.ofInt 8 ≤ nI i := fun q => by have := (nge (by omega) 8 (by decide)).mp q; omega
    obtain ⟨N, ⟨e1, e2⟩, fr, f, t, g1, g2, g3⟩ := X101_cover n Tm V I (i := i) (by omega)
    obtain ⟨u1, u2⟩ := cov_u g1 (C i (by omega))
    obtain ⟨w1, w2⟩ := cov_lt (I i (by omega)).1 (pv_lt I (by omega)) g1
    have TN := frW_ty fr Tm
    have nN := frW_is fr n
    have VN := frW_V fr V
    have hb := X101_has nN TN VN (i := i) (by omega) (nI 1)
    rw [bit_1 (by decide), show (bz (ib (K.1 i) 1 = true) = Int32.ofInt 1) = (ib (K.1 i) 1 = true) from propext bz_i1] at hb
    obtain ⟨X, y1, y2⟩ := ih (i + 1) J N TN nN VN (by omega) (by omega)
    have G3 := (gX101_isOpen_2 (FX101_isOpen_L2 fN J) w (lN a) (nI i) M Tm n ⟨fun q => absurd q h8, fun _ => ⟨e1, by
      rw [e2]
      exact ⟨fun _ => trivial, fun _ => ⟨fun _ => trivial, fun _ => ⟨hb.1, trivial⟩⟩⟩⟩⟩).1
    show ∃ M', FX101_isOpen_2 fN (FX101_isOpen_L2 fN J) w (lN a) (nI i) M = _ ∧ _
    unfold GX101_isOpen_2 GX101_isOpen_38 at G3
    dsimp only at G3
    rw [fi_neg h8, e2, g2, g3, propext (b_lt (n := a) (k := f) (by omega) (by omega)), propext (b_ge (n := a) (k := t) (by omega) (by omega)), show Int32.ofInt 1 = nI 1 from rfl, hb.2] at G3
    dsimp only at G3
    rw [show nI i + nI 1 = nI (i + 1) from up_1 (by omega)] at G3
    unfold opnS
    rw [← u1, ← u2]
    by_cases q1 : a < f
    · rw [fi_pos q1] at G3
      rw [show bz (((f ≤ a ∧ a < t) ∧ ib (K.1 i) 1 = true) ∨ (¬ (f ≤ a ∧ a < t) ∧ opnS F T K.1 a d (i + 1))) = bz (opnS F T K.1 a d (i + 1)) from bz_c ⟨fun z => z.elim (fun z => absurd z.1.1 (by omega)) (fun z => z.2), fun z => Or.inr ⟨by omega, z⟩⟩]
      exact ⟨X, G3.trans y1, frW_t fr y2⟩
    · rw [fi_neg q1] at G3
      by_cases q2 : t ≤ a
      · rw [fi_pos q2] at G3
        rw [show bz (((f ≤ a ∧ a < t) ∧ ib (K.1 i) 1 = true) ∨ (¬ (f ≤ a ∧ a < t) ∧ opnS F T K.1 a d (i + 1))) = bz (opnS F T K.1 a d (i + 1)) from bz_c ⟨fun z => z.elim (fun z => absurd z.1.2 (by omega)) (fun z => z.2), fun z => Or.inr ⟨by omega, z⟩⟩]
        exact ⟨X, G3.trans y1, frW_t fr y2⟩
      · rw [fi_neg q2] at G3
        rw [show bz (((f ≤ a ∧ a < t) ∧ ib (K.1 i) 1 = true) ∨ (¬ (f ≤ a ∧ a < t) ∧ opnS F T K.1 a d (i + 1))) = bz (ib (K.1 i) 1 = true) from bz_c ⟨fun z => z.elim (fun z => z.2) (fun z => absurd ⟨by omega, by omega⟩ z.1), fun z => Or.inl ⟨by omega, z⟩⟩]
        exact ⟨N, G3, fr⟩
theorem X101_isOpen (I : VGi K) (C : covR K F T) (ha : a < 2 ^ 57) {M : FM} (Tm : Ty M) (n : fm_is M 101 101 w = true) (V : VGt w M K) :
    ∃ M', (HX101_isOpen w (lN a) M ∧ GX101_isOpen w (lN a) M = (bz (opnS F T K.1 a 8 0), M')) ∧ FrW w M M' := by
  obtain ⟨M', e, fr⟩ := io_2 I C ha 8 0 fN M Tm n V rfl (by decide)
  have G0 := (gX101_isOpen_0 (FX101_isOpen_L2 fN fN) w (lN a) M Tm).1
  exact ⟨M', op_of (o := FX101_isOpen fN w (lN a) M) (G0.trans e) ⟨frW_ty fr Tm, frW_ext fr, bz_z _⟩, fr⟩
end Op
/-- regions are apart -/
def StG (g : Nat) (M : FM) : Prop := ∀ i j, i < 8 → j < 8 → rgn g i M = rgn g j M → i = j
def VG0 (g : Nat) (M : FM) (K : Rg) : Prop := ∀ i, i < 8 → M.1 280 (rgn g i M) 0 = K.1 i ∧ M.2.1 281 (rgn g i M) 0 = lN (K.2 i)
def OdS (M : FM) : Prop := ∀ k, k < 4 → M.1 10 (33 + k) 0 = nI k
/-- the component's regions: only these places change -/
def FrG (g : Nat) (M M' : FM) : Prop := M'.2.2 = M.2.2 ∧ (∀ f b i, ¬ ((f = 285 ∧ b = g) ∨ (f = 280 ∧ ∃ j, j < 8 ∧ b = rgn g j M)) → M'.1 f b i = M.1 f b i) ∧
  ∀ f b i, ¬ (281 ≤ f ∧ f ≤ 283 ∧ ∃ j, j < 8 ∧ b = rgn g j M) → M'.2.1 f b i = M.2.1 f b i
theorem rgn_e {g i : Nat} {M N : FM} (h : N.2.2 = M.2.2) : rgn g i N = rgn g i M := by unfold rgn; rw [h]
theorem frG_r (g : Nat) (M : FM) : FrG g M M := ⟨rfl, fun _ _ _ _ => rfl, fun _ _ _ _ => rfl⟩
theorem frG_t {g : Nat} {M N X : FM} (h : FrG g M N) (k : FrG g N X) : FrG g M X :=
  ⟨k.1.trans h.1, fun f b i z => (k.2.1 f b i (fun q => z (q.imp id (fun q => ⟨q.1, q.2.elim (fun j x => ⟨j, x.1, x.2.trans (rgn_e h.1)⟩)⟩)))).trans (h.2.1 f b i z),
    fun f b i z => (k.2.2 f b i (fun q => z ⟨q.1, q.2.1, q.2.2.elim (fun j x => ⟨j, x.1, x.2.trans (rgn_e h.1)⟩)⟩)).trans (h.2.2 f b i z)⟩
theorem frG_L {g f j : Nat} {v : Int64} {M N : FM} (h : FrG g M N) (hf : 281 ≤ f ∧ f ≤ 283) (hj : j < 8) : FrG g M (fm_sL N f (rgn g j M) 0 v) :=
  ⟨h.1, h.2.1, fun e b i z => by rw [rL, if_neg (fun q => z ⟨by rw [q.1]; exact hf.1, by rw [q.1]; exact hf.2, j, hj, q.2.1⟩)]; exact h.2.2 e b i z⟩
theorem frG_I {g j : Nat} {v : Int32} {M N : FM} (h : FrG g M N) (hj : j < 8) : FrG g M (fm_sI N 280 (rgn g j M) 0 v) :=
  ⟨h.1, fun e b i z => by rw [rI, if_neg (fun q => z (Or.inr ⟨q.1, j, hj, q.2.1⟩))]; exact h.2.1 e b i z, h.2.2⟩
theorem frG_V {g : Nat} {v : Int32} {M N : FM} (h : FrG g M N) : FrG g M (fm_sI N 285 g 0 v) :=
  ⟨h.1, fun e b i z => by rw [rI, if_neg (fun q => z (Or.inl ⟨q.1, q.2.1⟩))]; exact h.2.1 e b i z, h.2.2⟩
theorem frG_ext {g : Nat} {M N : FM} (h : FrG g M N) : Ext M N := by
  intro a _
  rw [h.1]
  exact ⟨rfl, rfl⟩
section La
variable {g : Nat} {K : Rg}
theorem lay_L (I : VGi K) : ∀ (d i J : Nat) (M : FM), Ty M → fm_is M 90 90 g = true → StG g M → OdS M → VG0 g M K →
    (∀ j, j < i → ∃ f t, covP (K.1 j) (K.2 j) (pv K j) f t ∧ M.2.1 282 (rgn g j M) 0 = lN f ∧ M.2.1 283 (rgn g j M) 0 = lN t) → i + d = 8 → d < J →
    ∃ M', FX86_lay_L2 fN J g (nI i) M = some M' ∧ Ty M' ∧ FrG g M M' ∧ VGc g M' K ∧ M'.1 285 g 0 = M.1 285 g 0 + Int32.ofInt 1 := by
  intro d
  induction d with
  | zero =>
    intro i J M Tm n S O V L hi hJ
    obtain ⟨J, rfl⟩ : ∃ x, J = x + 1 := ⟨J - 1, by omega⟩
    have e : i = 8 := by omega
    subst e
    refine ⟨fm_sI M 285 g 0 (M.1 285 g 0 + Int32.ofInt 1), ?_, ⟨Tm.1, tyb_sI rfl Tm.2⟩, frG_V (frG_r g M), fun i hi => ⟨?_, (V i hi).2, L i hi⟩, ?_⟩
    · show FX86_lay_2 fN (FX86_lay_L2 fN J) g (nI 8) M = _
      have h8 : Int32.ofInt 8 ≤ nI 8 := Int32.le_refl _
      rw [(gX86_lay_2 (FX86_lay_L2 fN J) g (nI 8) M Tm n ⟨fun _ => trivial, fun q => absurd h8 q⟩).1]
      unfold GX86_lay_2
      rw [fi_pos h8]
      rfl
    · rw [rIf (by decide)]
      exact (V i hi).1
    · rw [rI, if_pos ⟨rfl, rfl, rfl⟩]
  | succ d ih =>
    intro i J M Tm n S O V L hi hJ
    obtain ⟨J, rfl⟩ : ∃ x, J = x + 1 := ⟨J - 1, by omega⟩
    have h8 : ¬ Int32.ofInt 8 ≤ nI i := fun q => by have := (nge (by omega) 8 (by decide)).mp q; omega
    have inn : ∀ {j}, j < 8 → fm_in M (M.2.2 284 g 0) (nI j) = true := fun h => in_nI (tL_284 Tm.1 n) h (by decide)
    have i0 : nI i = 0 ↔ i = 0 := ⟨fun q => nI_j (by omega) (by decide) q, fun q => by rw [q]; rfl⟩
    have dn : ¬ i = 0 → nI i - Int32.ofInt 1 = nI (i - 1) := fun q => by
      have e := n_dn (n := i - 1) (by omega)
      rw [show i - 1 + 1 = i by omega] at e
      exact e
    obtain ⟨f, t, c1, c2⟩ := X87_lay (r := rgn g i M) O (V i (by omega)).1 (V i (by omega)).2 (I i (by omega)).1 (pv_lt I (i := i) (by omega))
    have nr : ∀ {j}, j < 8 → ¬ j = i → ∀ {e : Nat} {v : Int64} {N : FM} {f' x : Nat}, (fm_sL N e (rgn g i M) 0 v).2.1 f' (rgn g j M) x = N.2.1 f' (rgn g j M) x := fun hj ne => by
      intro e v N f' x
      rw [rL, if_neg (fun q => ne (S _ _ hj (by omega) q.2.1))]
    obtain ⟨X, x1, x2, x3, x4, x5⟩ := ih (i + 1) J (fm_sL (fm_sL M 282 (rgn g i M) 0 (lN f)) 283 (rgn g i M) 0 (lN t)) (ty_eq (M := M) rfl rfl Tm) (by exact n) S O
      (fun j hj => ⟨(V j hj).1, by rw [rLf (by decide), rLf (by decide)]; exact (V j hj).2⟩)
      (fun j hj => by
        by_cases e : j = i
        · subst e
          refine ⟨f, t, c1, ?_, ?_⟩
          · show (fm_sL (fm_sL M 282 (rgn g j M) 0 (lN f)) 283 (rgn g j M) 0 (lN t)).2.1 282 (rgn g j M) 0 = _
            rw [rLf (by decide), rL, if_pos ⟨rfl, rfl, rfl⟩]
          · show (fm_sL (fm_sL M 282 (rgn g j M) 0 (lN f)) 283 (rgn g j M) 0 (lN t)).2.1 283 (rgn g j M) 0 = _
            rw [rL, if_pos ⟨rfl, rfl, rfl⟩]
        · obtain ⟨f', t', d1, d2, d3⟩ := L j (by omega)
          refine ⟨f', t', d1, ?_, ?_⟩
          · show (fm_sL (fm_sL M 282 (rgn g i M) 0 (lN f)) 283 (rgn g i M) 0 (lN t)).2.1 282 (rgn g j M) 0 = _
            rw [nr (by omega) e, nr (by omega) e, d2]
          · show (fm_sL (fm_sL M 282 (rgn g i M) 0 (lN f)) 283 (rgn g i M) 0 (lN t)).2.1 283 (rgn g j M) 0 = _
            rw [nr (by omega) e, nr (by omega) e, d3]) (by omega) (by omega)
    have fr : FrG g M (fm_sL (fm_sL M 282 (rgn g i M) 0 (lN f)) 283 (rgn g i M) 0 (lN t)) := frG_L (frG_L (frG_r g M) (by decide) (by omega)) (by decide) (by omega)
    refine ⟨X, ?_, x2, frG_t fr x3, x4, x5⟩
    show FX86_lay_2 fN (FX86_lay_L2 fN J) g (nI i) M = _
    rw [(gX86_lay_2 (FX86_lay_L2 fN J) _ _ M Tm n ⟨fun q => absurd q h8, fun _ => ⟨inn (by omega), fun _ => trivial, fun q => by
      have q' : ¬ i = 0 := fun z => q (i0.mpr z)
      rw [dn q']
      exact ⟨inn (by omega), trivial⟩⟩⟩).1]
    unfold GX86_lay_2 GX86_lay_33
    dsimp only
    rw [fi_neg h8, propext i0, o_cl (by omega), show M.2.2 3 (M.2.2 284 g 0) i = rgn g i M from rfl]
    unfold pv at c2
    by_cases q : i = 0
    · rw [if_pos q] at c2
      rw [fi_pos q, show Int64.ofInt 0 = lN 0 from rfl, c2, up_1 (by omega)]
      exact x1
    · rw [if_neg q] at c2
      rw [fi_neg q, dn q, o_cl (by omega), show M.2.1 281 (M.2.2 3 (M.2.2 284 g 0) (i - 1)) 0 = lN (K.2 (i - 1)) from (V (i - 1) (by omega)).2, c2, up_1 (by omega)]
      exact x1
theorem X86_lay (I : VGi K) {M : FM} (Tm : Ty M) (n : fm_is M 90 90 g = true) (S : StG g M) (O : OdS M) (V : VG0 g M K) :
    ∃ M', (HX86_lay g M ∧ GX86_lay g M = M') ∧ Ty M' ∧ FrG g M M' ∧ VGc g M' K ∧ M'.1 285 g 0 = M.1 285 g 0 + Int32.ofInt 1 := by
  obtain ⟨M', e, T', fr, v, w⟩ := lay_L I 8 0 fN M Tm n S O V (fun j hj => absurd hj (Nat.not_lt_zero j)) rfl (by decide)
  have G0 := (gX86_lay_0 (FX86_lay_L2 fN fN) g M Tm).1
  exact ⟨M', op_of (o := FX86_lay fN g M) (G0.trans e) ⟨T', frG_ext fr⟩, T', fr, v, w⟩
end La
