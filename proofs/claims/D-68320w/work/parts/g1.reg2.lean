/-! regions: the twin's cover whole, the component's lay -/
set_option maxRecDepth 100000
theorem kd_4 (c : Int32) : kdR c = 0 ∨ kdR c = Int32.ofInt 1 ∨ kdR c = Int32.ofInt 2 ∨ kdR c = Int32.ofInt 3 := by
  unfold kdR
  generalize c >>> (Int32.ofInt 3 &&& 31) = x
  have e : ui (x &&& Int32.ofInt 3) = ui x % 4 := by
    rw [ui_and, show ui (Int32.ofInt 3) = 2 ^ 2 - 1 from rfl, Nat.and_two_pow_sub_one_eq_mod]
  have h : ui x % 4 = 0 ∨ ui x % 4 = 1 ∨ ui x % 4 = 2 ∨ ui x % 4 = 3 := by omega
  rcases h with h | h | h | h
  · exact Or.inl (ui_inj (e.trans h))
  · exact Or.inr (Or.inl (ui_inj (e.trans h)))
  · exact Or.inr (Or.inr (Or.inl (ui_inj (e.trans h))))
  · exact Or.inr (Or.inr (Or.inr (ui_inj (e.trans h))))
/-- only the two numbers of what a region covers change -/
def FrW (w : Nat) (M M' : FM) : Prop := M'.1 = M.1 ∧ M'.2.2 = M.2.2 ∧ ∀ f b i, ¬ (b = w ∧ (f = 429 ∨ f = 430)) → M'.2.1 f b i = M.2.1 f b i
theorem frW_r (w : Nat) (M : FM) : FrW w M M := ⟨rfl, rfl, fun _ _ _ _ => rfl⟩
theorem frW_t {w : Nat} {M N X : FM} (h : FrW w M N) (k : FrW w N X) : FrW w M X := ⟨k.1.trans h.1, k.2.1.trans h.2.1, fun f b i z => (k.2.2 f b i z).trans (h.2.2 f b i z)⟩
theorem frW_L {w f : Nat} {v : Int64} {M N : FM} (h : FrW w M N) (hf : f = 429 ∨ f = 430) : FrW w M (fm_sL N f w 0 v) :=
  ⟨h.1, h.2.1, fun g b i z => by rw [rL, if_neg (fun q => z ⟨q.2.1, by rw [q.1]; exact hf⟩)]; exact h.2.2 g b i z⟩
theorem frW_ty {w : Nat} {M N : FM} (h : FrW w M N) (T : Ty M) : Ty N := ty_eq h.1 h.2.1 T
theorem frW_ext {w : Nat} {M N : FM} (h : FrW w M N) : Ext M N := by
  intro a _
  rw [h.2.1]
  exact ⟨rfl, rfl⟩
theorem frW_is {w : Nat} {M N : FM} (h : FrW w M N) {lo hi a : Nat} (k : fm_is M lo hi a = true) : fm_is N lo hi a = true := by
  unfold fm_is at *
  rw [h.2.1]
  exact k
/-- configs, numbers -/
abbrev Rg : Type := (Nat → Int32) × (Nat → Nat)
def pv (K : Rg) (i : Nat) : Nat := if i = 0 then 0 else K.2 (i - 1)
def VGi (K : Rg) : Prop := ∀ i, i < 8 → K.2 i < 2 ^ 54 ∧ ui (K.1 i) < 256
def VGt (w : Nat) (M : FM) (K : Rg) : Prop := (∀ i, i < 8 → M.1 3 (M.2.2 427 w 0) i = K.1 i) ∧ (∀ i, i < 8 → M.2.1 3 (M.2.2 428 w 0) i = lN (K.2 i))
theorem frW_V {w : Nat} {M N : FM} {K : Rg} (h : FrW w M N) (V : VGt w M K) : VGt w N K := by
  refine ⟨fun i hi => ?_, fun i hi => ?_⟩
  · rw [h.1, h.2.1]
    exact V.1 i hi
  · rw [h.2.1, h.2.2 3 _ i (fun q => by omega)]
    exact V.2 i hi
theorem pv_lt {K : Rg} (I : VGi K) {i : Nat} (hi : i < 8) : pv K i < 2 ^ 54 := by
  unfold pv
  split
  · decide
  · exact (I (i - 1) (by omega)).1
theorem cov_ex (c : Int32) {N b : Nat} (hN : N < 2 ^ 54) : ∃ f t, covP c N b f t := by
  rcases kd_4 c with h | h | h | h
  · exact ⟨_, _, Or.inl ⟨h, rfl, rfl⟩⟩
  · exact ⟨_, _, Or.inr (Or.inl ⟨h, rfl, rfl⟩)⟩
  · exact ⟨_, _, Or.inr (Or.inr (Or.inl ⟨h, rfl, rfl⟩))⟩
  · have : ∀ d i, i + d = 54 → (∀ k, k < i → N.testBit k = true) → ∃ j, onesP N j := by
      intro d
      induction d with
      | zero => exact fun i hi hk => ⟨i, by omega, hk, Or.inl (by omega)⟩
      | succ d ih =>
        intro i hi hk
        cases hb : N.testBit i with
        | false => exact ⟨i, by omega, hk, Or.inr hb⟩
        | true =>
          refine ih (i + 1) (by omega) (fun k q => ?_)
          by_cases e : k = i
          · rw [e]; exact hb
          · exact hk k (by omega)
    obtain ⟨j, hj⟩ := this 54 0 rfl (fun k q => absurd q (Nat.not_lt_zero k))
    exact ⟨_, _, Or.inr (Or.inr (Or.inr ⟨h, j, hj, rfl, rfl⟩))⟩
theorem cov_lt {c : Int32} {N b f t : Nat} (hN : N < 2 ^ 54) (hb : b < 2 ^ 54) (h : covP c N b f t) : f < 2 ^ 56 ∧ t < 2 ^ 58 := by
  have p : (2 : Nat) ^ 54 = 18014398509481984 ∧ (2 : Nat) ^ 56 = 72057594037927936 ∧ (2 : Nat) ^ 58 = 288230376151711744 := by decide
  obtain ⟨p1, p2, p3⟩ := p
  rcases h with ⟨_, rfl, rfl⟩ | ⟨_, rfl, rfl⟩ | ⟨_, rfl, rfl⟩ | ⟨_, j, hj, rfl, rfl⟩
  · decide
  · omega
  · omega
  · have pj : 2 ^ j ≤ 2 ^ 54 := Nat.pow_le_pow_right (by decide) hj.1
    omega
section Cw
variable {w i : Nat} {M : FM} {K : Rg}
theorem X101_kind (n : fm_is M 101 101 w = true) (T : Ty M) (V : VGt w M K) (hi : i < 8) : HX101_kind w (nI i) M ∧ GX101_kind w (nI i) M = (kdR (K.1 i), M) := by
  refine ⟨⟨in_nI (tL_427 T.1 n) hi (by decide), trivial⟩, ?_⟩
  unfold GX101_kind GX101_kind_0
  dsimp only
  rw [o_cl (by omega), V.1 i hi]
  rfl
theorem X101_has (n : fm_is M 101 101 w = true) (T : Ty M) (V : VGt w M K) (hi : i < 8) (b : Int32) : HX101_has w (nI i) b M ∧ GX101_has w (nI i) b M = (bz ((K.1 i >>> (b &&& 31)) &&& Int32.ofInt 1 = Int32.ofInt 1), M) := by
  refine ⟨⟨in_nI (tL_427 T.1 n) hi (by decide), trivial⟩, ?_⟩
  unfold GX101_has GX101_has_0 GX101_has_19
  dsimp only
  rw [o_cl (by omega), V.1 i hi, ← fi_pr]
theorem X101_cover (n : fm_is M 101 101 w = true) (T : Ty M) (V : VGt w M K) (I : VGi K) (hi : i < 8) : ∃ M', (HX101_cover w (nI i) M ∧ GX101_cover w (nI i) M = M') ∧ FrW w M M' ∧
    ∃ f t, covP (K.1 i) (K.2 i) (pv K i) f t ∧ M'.2.1 429 w 0 = lN f ∧ M'.2.1 430 w 0 = lN t := by
  have p54 : (2 : Nat) ^ 54 = 18014398509481984 := by decide
  have tl8 : M.2.2 1 (M.2.2 428 w 0) 0 = 8 := tL_428 T.1 n
  have hN := (I i hi).1
  have hb := pv_lt I hi
  obtain ⟨k1, k2⟩ := X101_kind n T V hi
  have inn : ∀ {j : Nat}, j < 8 → fm_in M (M.2.2 428 w 0) (nI j) = true := fun h => in_nI tl8 h (by decide)
  have dn : ¬ nI i = 0 → 0 < i ∧ nI i - Int32.ofInt 1 = nI (i - 1) := fun q => by
    have : 0 < i := by
      rcases Nat.eq_zero_or_pos i with z | z
      · rw [z] at q; exact absurd rfl q
      · exact z
    refine ⟨this, ?_⟩
    have e := n_dn (n := i - 1) (by omega)
    rw [show i - 1 + 1 = i by omega] at e
    exact e
  have hH : HX101_cover_0 w (nI i) M := by
    unfold HX101_cover_0 HX101_cover_42
    dsimp only
    rw [k2]
    exact ⟨k1, fun _ => ⟨fun _ => ⟨inn hi, trivial⟩, fun q => by rw [(dn q).2]; exact ⟨inn (by omega), inn hi, trivial⟩⟩, fun _ => ⟨fun _ => trivial, fun _ => ⟨inn hi, trivial⟩⟩⟩
  have G0 := (gX101_cover_0 (FX101_cover_L91 fN fN) w (nI i) M T n hH).1
  have go : ∀ M', FX101_cover fN w (nI i) M = some M' → FrW w M M' → (∃ f t, covP (K.1 i) (K.2 i) (pv K i) f t ∧ M'.2.1 429 w 0 = lN f ∧ M'.2.1 430 w 0 = lN t) → ∃ M', (HX101_cover w (nI i) M ∧ GX101_cover w (nI i) M = M') ∧ FrW w M M' ∧
    ∃ f t, covP (K.1 i) (K.2 i) (pv K i) f t ∧ M'.2.1 429 w 0 = lN f ∧ M'.2.1 430 w 0 = lN t := fun M' e h k =>
      ⟨M', op_of e ⟨frW_ty h T, frW_ext h⟩, h, k⟩
  unfold GX101_cover_0 at G0
  dsimp only at G0
  rw [k2] at G0
  dsimp only at G0
  have v4 : ∀ {k}, k < 2 ^ 54 → Int64.ofInt 4 * lN k = lN (4 * k) := fun {k} h => by rw [show Int64.ofInt 4 = lN 4 from rfl]; exact l_m (by omega) (by decide) (by omega)
  have z0 : FrW w M (fm_sL (fm_sL M 429 w 0 (Int64.ofInt 0)) 430 w 0 (Int64.ofInt 0)) := frW_L (frW_L (frW_r w M) (by decide)) (by decide)
  have vn : (fm_sL (fm_sL M 429 w 0 (Int64.ofInt 0)) 430 w 0 (Int64.ofInt 0)).2.1 3 (M.2.2 428 w 0) i = lN (K.2 i) := by
    rw [rL, if_neg (fun q => absurd q.1 (by decide)), rL, if_neg (fun q => absurd q.1 (by decide))]
    exact V.2 i hi
  rcases kd_4 (K.1 i) with h | h | h | h
  · rw [fi_neg (by rw [h]; decide), fi_pos (by rw [h]; decide)] at G0
    exact go _ G0 z0 ⟨0, 0, Or.inl ⟨h, rfl, rfl⟩, by rw [rL, if_neg (fun q => absurd q.1 (by decide)), rL, if_pos ⟨rfl, rfl, rfl⟩]; rfl, by rw [rL, if_pos ⟨rfl, rfl, rfl⟩]; rfl⟩
  · rw [fi_pos h] at G0
    by_cases q : nI i = 0
    · have : i = 0 := nI_j (by omega) (by decide) q
      subst this
      rw [fi_pos q] at G0
      refine go _ G0 (frW_L (frW_L z0 (by decide)) (by decide)) ⟨4 * 0, 4 * K.2 0, Or.inr (Or.inl ⟨h, rfl, rfl⟩), ?_, ?_⟩
      · rw [rL, if_neg (fun q => absurd q.1 (by decide)), rL, if_pos ⟨rfl, rfl, rfl⟩]
        rfl
      · rw [rL, if_pos ⟨rfl, rfl, rfl⟩, rL, if_neg (fun q => absurd q.1 (by decide)), ← v4 hN, ← vn]
        rfl
    · obtain ⟨q1, q2⟩ := dn q
      rw [fi_neg q, q2, o_cl (by omega)] at G0
      refine go _ G0 (frW_L (frW_L z0 (by decide)) (by decide)) ⟨4 * pv K i, 4 * K.2 i, Or.inr (Or.inl ⟨h, rfl, rfl⟩), ?_, ?_⟩
      · rw [rL, if_neg (fun q => absurd q.1 (by decide)), rL, if_pos ⟨rfl, rfl, rfl⟩, rL, if_neg (fun q => absurd q.1 (by decide)), rL, if_neg (fun q => absurd q.1 (by decide)), ← v4 hb]
        unfold pv
        rw [if_neg (by omega), ← V.2 (i - 1) (by omega)]
        rfl
      · rw [rL, if_pos ⟨rfl, rfl, rfl⟩, rL, if_neg (fun q => absurd q.1 (by decide)), o_cl (by omega), ← v4 hN, ← vn]
        rfl
  · rw [fi_neg (by rw [h]; decide), fi_neg (by rw [h]; decide), fi_neg (by rw [h]; decide)] at G0
    refine go _ G0 (frW_L (frW_L z0 (by decide)) (by decide)) ⟨4 * K.2 i, 4 * K.2 i + 4, Or.inr (Or.inr (Or.inl ⟨h, rfl, rfl⟩)), ?_, ?_⟩
    · rw [rL, if_neg (fun q => absurd q.1 (by decide)), rL, if_pos ⟨rfl, rfl, rfl⟩, o_cl (by omega)]
      refine Eq.trans ?_ (v4 hN)
      rw [← vn]
      rfl
    · rw [rL, if_pos ⟨rfl, rfl, rfl⟩, rL, if_pos ⟨rfl, rfl, rfl⟩, o_cl (by omega)]
      have e : lN (4 * K.2 i + 4) = Int64.ofInt 4 * lN (K.2 i) + Int64.ofInt 4 := by rw [v4 hN]; exact (l_a (by omega)).symm
      rw [e, ← vn]
      rfl
  · rw [fi_neg (by rw [h]; decide), fi_neg (by rw [h]; decide), fi_pos (by rw [h])] at G0
    obtain ⟨j, j1, j2⟩ := X101_cover_L (m := w) (ty_eq (M := M) rfl rfl T : Ty (fm_sL (fm_sL M 429 w 0 (Int64.ofInt 0)) 430 w 0 (Int64.ofInt 0))) (frW_is z0 n) hN 54 0 fN rfl (by decide) (fun k q => absurd q (Nat.not_lt_zero k))
    have e : FX101_cover fN w (nI i) M = FX101_cover_L91 fN fN w (lN (8 * 2 ^ 0)) (lN (K.2 i - (2 ^ 0 - 1))) (lN (2 ^ 0)) (fm_sL (fm_sL M 429 w 0 (Int64.ofInt 0)) 430 w 0 (Int64.ofInt 0)) := by
      rw [show K.2 i - (2 ^ 0 - 1) = K.2 i by omega, ← vn]
      rw [o_cl (by omega)] at G0
      exact G0
    refine go _ (e.trans j2) (frW_L (frW_L z0 (by decide)) (by decide)) ⟨4 * (K.2 i - (2 ^ j - 1)), 4 * (K.2 i - (2 ^ j - 1)) + 8 * 2 ^ j, Or.inr (Or.inr (Or.inr ⟨h, j, j1, rfl, rfl⟩)), ?_, ?_⟩
    · rw [rL, if_neg (fun q => absurd q.1 (by decide)), rL, if_pos ⟨rfl, rfl, rfl⟩]
    · rw [rL, if_pos ⟨rfl, rfl, rfl⟩]
end Cw
theorem X87_span {r : Nat} {M : FM} {c : Int32} (hc : M.1 280 r 0 = c) : GX87_span r M = (33 + ui (kdR c), M) := by
  unfold GX87_span GX87_span_0 GX87_span_44
  dsimp only
  rw [show M.1 280 r 0 >>> (Int32.ofInt 3 &&& 31) &&& Int32.ofInt 3 = kdR c by rw [← hc]; rfl]
  rcases kd_4 c with h | h | h | h
  · rw [fi_pos h, h]
    rfl
  · rw [fi_neg (by rw [h]; decide), fi_pos h, h]
    rfl
  · rw [fi_neg (by rw [h]; decide), fi_neg (by rw [h]; decide), fi_pos h, h]
    rfl
  · rw [fi_neg (by rw [h]; decide), fi_neg (by rw [h]; decide), fi_neg (by rw [h]; decide), h]
    rfl
/-- what a region's lay writes -/
theorem X87_lay {r : Nat} {M : FM} {c : Int32} {N b : Nat} (hO : ∀ k, k < 4 → M.1 10 (33 + k) 0 = nI k) (hc : M.1 280 r 0 = c) (hv : M.2.1 281 r 0 = lN N) (hN : N < 2 ^ 54) (hb : b < 2 ^ 54) :
    ∃ f t, covP c N b f t ∧ GX87_lay r (lN b) M = fm_sL (fm_sL M 282 r 0 (lN f)) 283 r 0 (lN t) := by
  have p54 : (2 : Nat) ^ 54 = 18014398509481984 := by decide
  have v4 : ∀ {k}, k < 2 ^ 54 → Int64.ofInt 4 * lN k = lN (4 * k) := fun {k} h => by rw [show Int64.ofInt 4 = lN 4 from rfl]; exact l_m (by omega) (by decide) (by omega)
  have o1 : M.1 10 33 0 = Int32.ofInt 0 := hO 0 (by decide)
  have o2 : M.1 10 34 0 = Int32.ofInt 1 := hO 1 (by decide)
  have o3 : M.1 10 35 0 = Int32.ofInt 2 := hO 2 (by decide)
  have o4 : M.1 10 36 0 = Int32.ofInt 3 := hO 3 (by decide)
  unfold GX87_lay GX87_lay_0 GX87_lay_142 GJ0_ordinal GJ0_ordinal_0
  dsimp only
  rw [X87_span hc]
  dsimp only
  rcases kd_4 c with h | h | h | h
  · rw [show 33 + ui (kdR c) = 33 by rw [h]; rfl, o1, fi_neg (by decide), fi_neg (by decide), fi_neg (by decide)]
    exact ⟨0, 0, Or.inl ⟨h, rfl, rfl⟩, rfl⟩
  · rw [show 33 + ui (kdR c) = 34 by rw [h]; rfl, o2, fi_pos rfl, rL, if_neg (fun q => absurd q.1 (by decide)), hv, v4 hN, v4 hb]
    exact ⟨_, _, Or.inr (Or.inl ⟨h, rfl, rfl⟩), rfl⟩
  · rw [show 33 + ui (kdR c) = 35 by rw [h]; rfl, o3, fi_neg (by decide), fi_pos rfl, rL, if_pos ⟨rfl, rfl, rfl⟩, hv, v4 hN, show Int64.ofInt 4 = lN 4 from rfl, l_a (by omega)]
    exact ⟨_, _, Or.inr (Or.inr (Or.inl ⟨h, rfl, rfl⟩)), rfl⟩
  · rw [show 33 + ui (kdR c) = 36 by rw [h]; rfl]
    obtain ⟨f, t, g⟩ := cov_ex c (b := b) hN
    obtain ⟨j, hj, e1, e2⟩ : ∃ j, onesP N j ∧ f = 4 * (N - (2 ^ j - 1)) ∧ t = f + 8 * 2 ^ j := by
      rcases g with ⟨q, _⟩ | ⟨q, _⟩ | ⟨q, _⟩ | ⟨_, g⟩
      · rw [h] at q; exact absurd q (by decide)
      · rw [h] at q; exact absurd q (by decide)
      · rw [h] at q; exact absurd q (by decide)
      · exact g
    have pj : 2 ^ j ≤ 2 ^ 54 := Nat.pow_le_pow_right (by decide) hj.1
    have p0 : 0 < 2 ^ j := Nat.two_pow_pos j
    have le : 2 ^ j - 1 ≤ N := by
      have := ones_m hj.2.1
      have := Nat.mod_le N (2 ^ j)
      omega
    rw [o4, fi_neg (by decide), fi_neg (by decide), fi_pos rfl, rL, if_pos ⟨rfl, rfl, rfl⟩, hv, ones_x hN hj, l_s le (by omega), v4 (by omega), show Int64.ofInt 1 = lN 1 from rfl, l_a (by omega),
      show 2 ^ j - 1 + 1 = 2 ^ j by omega, show Int64.ofInt 8 = lN 8 from rfl, l_m (by omega) (by omega) (by omega), l_a (by omega)]
    exact ⟨f, t, g, by rw [e2, e1]⟩
