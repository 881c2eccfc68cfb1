/-! walks: the twin's walk from the table on, and how it finds -/
set_option maxRecDepth 100000
/-- from a bit on all bits are the same -/
def can (a : Int64) (k : Nat) : Prop := ∀ i, k ≤ i → i < 64 → lb a i = lb a k
theorem can_t (a : Int64) {p : Int32} {k : Nat} (e : ui p = k) (hk : k < 64) : (lg_cmp (a >>> (p.toInt64 &&& 63)) (Int64.ofInt 0) = 0 ∨ lg_cmp (a >>> (p.toInt64 &&& 63)) (Int64.ofInt (-1)) = 0) ↔ can a k := by
  have em : ui p % 64 = k := by rw [e]; exact Nat.mod_eq_of_lt hk
  have hb := fun i hi => lb_sar a p em i hi
  rw [lg_cmp_eq, lg_cmp_eq]
  constructor
  · intro h i h1 h2
    have b1 := hb (i - k) (by omega)
    have b0 := hb 0 (by omega)
    rw [if_pos (by omega), show i - k + k = i by omega] at b1
    rw [if_pos (by omega), Nat.zero_add] at b0
    rw [← b1, ← b0]
    rcases h with h | h
    · rw [h, lb_0, lb_0]
    · rw [h, lb_m1 _ (by omega), lb_m1 _ (by omega)]
  · intro h
    cases hc : lb a k with
    | false =>
      left
      refine lb_ext fun i hi => ?_
      rw [hb i hi, lb_0]
      by_cases q : i + k < 64
      · rw [if_pos q, h _ (by omega) q, hc]
      · rw [if_neg q, h 63 (by omega) (by omega), hc]
    | true =>
      right
      refine lb_ext fun i hi => ?_
      rw [hb i hi, lb_m1 _ hi]
      by_cases q : i + k < 64
      · rw [if_pos q, h _ (by omega) q, hc]
      · rw [if_neg q, h 63 (by omega) (by omega), hc]
theorem can_c (a : Int64) {p : Int32} {s : Nat} (e : ui p = s) (hs : 0 < s ∧ s < 64) : lg_cmp ((a <<< (p.toInt64 &&& 63)) >>> (p.toInt64 &&& 63)) a = 0 ↔ can a (63 - s) := by
  have em : ui p % 64 = s := by rw [e]; exact Nat.mod_eq_of_lt hs.2
  have hb : ∀ i, i < 64 → lb ((a <<< (p.toInt64 &&& 63)) >>> (p.toInt64 &&& 63)) i = lb a (if i + s < 64 then i else 63 - s) := fun i hi => by
    rw [lb_sar _ p em i hi, lb_shl a p em]
    by_cases q : i + s < 64
    · rw [if_pos q, if_pos q, decide_eq_true q, decide_eq_true (by omega), Nat.add_sub_cancel]
      rfl
    · rw [if_neg q, if_neg q, decide_eq_true (by omega), decide_eq_true (by omega)]
      rfl
  rw [lg_cmp_eq]
  constructor
  · intro h i h1 h2
    by_cases q : i + s < 64
    · rw [show i = 63 - s by omega]
    · have b := hb i h2
      rw [h, if_neg q] at b
      exact b
  · intro h
    refine lb_ext fun i hi => ?_
    rw [hb i hi]
    by_cases q : i + s < 64
    · rw [if_pos q]
    · rw [if_neg q, h i (by omega) hi]
def srt (tb : Int64) : Nat := ul tb / 2 ^ 60
noncomputable def dps (tb : Int64) : Nat := fi (srt tb = 8) 3 4
theorem dps_le (tb : Int64) : dps tb ≤ 4 := by
  unfold dps
  by_cases h : srt tb = 8
  · rw [fi_pos h]; decide
  · rw [fi_neg h]; exact Nat.le_refl _
theorem srt_8 (tb : Int64) : lg_cmp ((tb.toUInt64 >>> ((Int32.ofInt 60).toInt64.toUInt64 &&& Int64.toUInt64 63)).toInt64) (Int64.ofInt 8) = 0 ↔ srt tb = 8 := by
  rw [cl_eq, ul_ushr, show ui (Int32.ofInt 60) % 64 = 60 from rfl, show ul (Int64.ofInt 8) = 8 from rfl]
  exact Iff.rfl
theorem srt_0 (tb : Int64) : lg_cmp ((tb.toUInt64 >>> ((Int32.ofInt 60).toInt64.toUInt64 &&& Int64.toUInt64 63)).toInt64) (Int64.ofInt 0) = 0 ↔ srt tb = 0 := by
  rw [cl_eq, ul_ushr, show ui (Int32.ofInt 60) % 64 = 60 from rfl, show ul (Int64.ofInt 0) = 0 from rfl]
  exact Iff.rfl
theorem sh_56 (a : Int64) : lg_cmp ((a.toUInt64 >>> ((Int32.ofInt 56).toInt64.toUInt64 &&& Int64.toUInt64 63)).toInt64) (Int64.ofInt 0) = 0 ↔ ul a < 2 ^ 56 := by
  rw [cl_eq, ul_ushr, show ui (Int32.ofInt 56) % 64 = 56 from rfl, show ul (Int64.ofInt 0) = 0 from rfl]
  have p : (2 : Nat) ^ 56 = 72057594037927936 := by decide
  omega
noncomputable def wlk0 (ld : Nat → Int64) (okL okS : Nat → Prop) (rt ac md : Int32) (a tb : Int64) : WO :=
  fi (can a (9 * dps tb + 11)) (wlk ld okL okS rt ac md (ul a / 4096) (dps tb) (ul tb % 2 ^ 44)) (.inl (pgF ac), none, [])
def pln (md : Int32) (tb : Int64) : Prop := md = Int32.ofInt 3 ∨ srt tb = 0
noncomputable def wfd (ld : Nat → Int64) (okL okS : Nat → Prop) (rt ac md : Int32) (a tb : Int64) : WO :=
  fi (pln md tb) (fi (ul a < 2 ^ 56) (.inr (ul a / 4096 * 4096), none, []) (.inl (acF ac), none, [])) (wlk0 ld okL okS rt ac md a tb)
noncomputable def finW (F T : Nat → Nat) (K : Rg) (ac md : Int32) (s : Nat) (p : Int64) : Int64 :=
  fi (lg_cmp p (Int64.ofInt 0) < 0) p (fi (letS F T K.1 (ul p) s ac md 8 0) p (acF ac))
theorem m44 (tb : Int64) : tb &&& Int64.ofInt 17592186044415 = lN (ul tb % 2 ^ 44) := by
  apply ul_inj
  have p44 : (2 : Nat) ^ 44 = 17592186044416 := by decide
  have m := Nat.mod_lt (ul tb) (Nat.two_pow_pos 44)
  rw [ul_and, show ul (Int64.ofInt 17592186044415) = 2 ^ 44 - 1 from rfl, Nat.and_two_pow_sub_one_eq_mod, l_big (by omega)]
section Sp
variable {ld : Nat → Int64} {okL okS : Nat → Prop} {rt ac md : Int32} {a tb : Int64}
theorem lst_b {A x d b : Nat} {e : Int64} (hd : d ≤ 3) (h : (lst okS rt ac md A x e d).1 = .inr b) : b % 4096 = 0 ∧ b + 4096 ≤ 2 ^ 57 := by
  obtain ⟨q1, q2⟩ := p9 hd
  have m := Nat.mod_lt A q2
  have e1 := nin_lt e
  have p44 : (2 : Nat) ^ 44 = 17592186044416 := by decide
  have p57 : (2 : Nat) ^ 57 = 144115188075855872 := by decide
  have key : ∀ b, b = 4096 * nin e + 4096 * (A % 2 ^ (9 * d)) → b % 4096 = 0 ∧ b + 4096 ≤ 2 ^ 57 := fun b hb => by omega
  unfold lst at h
  by_cases h1 : nin e % 2 ^ (9 * d) = 0 ∧ ¬ rfs rt e ac md
  · rw [fi_pos h1] at h
    by_cases k : mkd e ac
    · rw [fi_pos k] at h
      exact key b (Sum.inr.inj h).symm
    · rw [fi_neg k] at h
      by_cases q : okS x
      · rw [fi_pos q] at h
        exact key b (Sum.inr.inj h).symm
      · rw [fi_neg q] at h
        cases h
  · rw [fi_neg h1] at h
    cases h
theorem wlk_b {A b : Nat} : ∀ (d pg : Nat), d ≤ 4 → (wlk ld okL okS rt ac md A d pg).1 = .inr b → b % 4096 = 0 ∧ b + 4096 ≤ 2 ^ 57 := by
  intro d
  induction d with
  | zero => intro pg _ h; cases h
  | succ d ih =>
    intro pg hd h
    unfold wlk at h
    by_cases h1 : okL (eat A d pg)
    · rw [fi_pos h1] at h
      by_cases h2 : brk (ld (eat A d pg))
      · rw [fi_pos h2] at h
        cases h
      · rw [fi_neg h2] at h
        by_cases h3 : lea (ld (eat A d pg))
        · rw [fi_pos h3] at h
          exact lst_b (by omega) h
        · rw [fi_neg h3] at h
          by_cases h4 : d = 0 ∨ stp (ld (eat A d pg))
          · rw [fi_pos h4] at h
            cases h
          · rw [fi_neg h4] at h
            exact ih _ (by omega) h
    · rw [fi_neg h1] at h
      cases h
theorem lst_l {A x d : Nat} {e f : Int64} (h : (lst okS rt ac md A x e d).1 = .inl f) : f = acF ac ∨ f = pgF ac := by
  unfold lst at h
  by_cases h1 : nin e % 2 ^ (9 * d) = 0 ∧ ¬ rfs rt e ac md
  · rw [fi_pos h1] at h
    by_cases k : mkd e ac
    · rw [fi_pos k] at h
      cases h
    · rw [fi_neg k] at h
      by_cases q : okS x
      · rw [fi_pos q] at h
        cases h
      · rw [fi_neg q] at h
        exact Or.inl (Sum.inl.inj h).symm
  · rw [fi_neg h1] at h
    exact Or.inr (Sum.inl.inj h).symm
theorem wlk_l {A : Nat} {f : Int64} : ∀ (d pg : Nat), (wlk ld okL okS rt ac md A d pg).1 = .inl f → f = acF ac ∨ f = pgF ac := by
  intro d
  induction d with
  | zero => exact fun pg h => Or.inr (Sum.inl.inj h).symm
  | succ d ih =>
    intro pg h
    unfold wlk at h
    by_cases h1 : okL (eat A d pg)
    · rw [fi_pos h1] at h
      by_cases h2 : brk (ld (eat A d pg))
      · rw [fi_pos h2] at h
        exact Or.inr (Sum.inl.inj h).symm
      · rw [fi_neg h2] at h
        by_cases h3 : lea (ld (eat A d pg))
        · rw [fi_pos h3] at h
          exact lst_l h
        · rw [fi_neg h3] at h
          by_cases h4 : d = 0 ∨ stp (ld (eat A d pg))
          · rw [fi_pos h4] at h
            exact Or.inr (Sum.inl.inj h).symm
          · rw [fi_neg h4] at h
            exact ih _ h
    · rw [fi_neg h1] at h
      exact Or.inl (Sum.inl.inj h).symm
theorem wlk0_b {b : Nat} (h : (wlk0 ld okL okS rt ac md a tb).1 = .inr b) : b % 4096 = 0 ∧ b + 4096 ≤ 2 ^ 57 := by
  unfold wlk0 at h
  by_cases h1 : can a (9 * dps tb + 11)
  · rw [fi_pos h1] at h
    exact wlk_b _ _ (dps_le tb) h
  · rw [fi_neg h1] at h
    cases h
theorem wlk0_l {f : Int64} (h : (wlk0 ld okL okS rt ac md a tb).1 = .inl f) : f = acF ac ∨ f = pgF ac := by
  unfold wlk0 at h
  by_cases h1 : can a (9 * dps tb + 11)
  · rw [fi_pos h1] at h
    exact wlk_l _ _ h
  · rw [fi_neg h1] at h
    exact Or.inr (Sum.inl.inj h).symm
theorem wlk0_ok : (∀ q, (wlk0 ld okL okS rt ac md a tb).2.1 = some q → okL q.1) ∧ ∀ x, x ∈ (wlk0 ld okL okS rt ac md a tb).2.2 → okL x := by
  unfold wlk0
  by_cases h1 : can a (9 * dps tb + 11)
  · rw [fi_pos h1]
    exact wlk_ok _ _
  · rw [fi_neg h1]
    exact ⟨fun q h => (by cases h), fun x h => (by cases h)⟩
/-- what comes of it is a fault or a place -/
theorem wval_p (o : WO) (low : Nat) (hl : low < 4096) (hb : ∀ b, o.1 = .inr b → b + 4096 ≤ 2 ^ 57) (hf : ∀ f, o.1 = .inl f → f = acF ac ∨ f = pgF ac) : lg_cmp (wval o low) (Int64.ofInt 0) < 0 ∨ ul (wval o low) < 2 ^ 57 := by
  unfold wval
  cases h : o.1 with
  | inl f =>
    left
    rcases hf f h with e | e
    · show lg_cmp f _ < 0
      rw [e]
      exact acF_n ac
    · show lg_cmp f _ < 0
      rw [e]
      exact pgF_n ac
  | inr b =>
    right
    show ul (lN (b + low)) < 2 ^ 57
    have := hb b h
    have p57 : (2 : Nat) ^ 57 = 144115188075855872 := by decide
    rw [l_big (by omega)]
    omega
theorem low_lt (a : Int64) : ul a % 4096 < 4096 := Nat.mod_lt _ (by decide)
theorem wlk0_p : lg_cmp (wval (wlk0 ld okL okS rt ac md a tb) (ul a % 4096)) (Int64.ofInt 0) < 0 ∨ ul (wval (wlk0 ld okL okS rt ac md a tb) (ul a % 4096)) < 2 ^ 57 :=
  wval_p (ac := ac) _ _ (low_lt a) (fun b h => (wlk0_b h).2) (fun f h => wlk0_l h)
end Sp
section Fd
variable {w c : Nat} {K : Rg} {F T : Nat → Nat} {rt ac md : Int32} {a tb : Int64} {s : Nat}
theorem walk_19 {M : FM} (h : M.2.1 424 w 0 = tb) {D : Nat} (hD : D ≤ 4) : GX101_walk_19 w a ac md (nI D) M = fi (can a (9 * D + 11)) (.inl (w, a, ac, md, lN (ul tb % 2 ^ 44), nI D + Int32.ofInt (-1), M)) (.inr (pgF ac, M)) := by
  unfold GX101_walk_19 GX101_walk_54
  dsimp only
  rw [fi_or, X101_pageFault, h, m44, i_m1, show (Int32.ofInt 9 * nI D) + Int32.ofInt 11 = nI (9 * D + 11) by rw [lb_ushr9]; exact nI_a, propext (can_t a (k := 9 * D + 11) (by rw [ui_nI]; omega) (by omega))]
theorem X101_walk {M : FM} (Tm : Ty M) (V : WtV w c M K rt tb) (I : VGi K) (C : covR K F T) (hm : md = 0 ∨ md = Int32.ofInt 1) :
    ∃ N, FrW w M N ∧ HX101_walk w a ac md M ∧ GX101_walk w a ac md M = (wval (wlk0 (ldT c M) (okLw F T K) (okSw F T K) rt ac md a tb) (ul a % 4096), wrT c (wlk0 (ldT c M) (okLw F T K) (okSw F T K) rt ac md a tb).2.1 N) := by
  have key : ∃ N, FrW w M N ∧ FX101_walk fN w a ac md M = some (wval (wlk0 (ldT c M) (okLw F T K) (okSw F T K) rt ac md a tb) (ul a % 4096), wrT c (wlk0 (ldT c M) (okLw F T K) (okSw F T K) rt ac md a tb).2.1 N) ∧
      OkV M (wrT c (wlk0 (ldT c M) (okLw F T K) (okSw F T K) rt ac md a tb).2.1 N) := by
    show ∃ N, FrW w M N ∧ FX101_walk_0 fN (FX101_walk_L70 fN fN) w a ac md M = _ ∧ _
    have G0 := (gX101_walk_0 (FX101_walk_L70 fN fN) w a ac md M Tm V.1).1
    have hV : M.2.1 424 w 0 = tb := V.2.2.2.2.2.2
    unfold GX101_walk_0 GX101_sortOf GX101_sortOf_0 at G0
    dsimp only at G0
    rw [hV, propext (srt_8 tb), show Int32.ofInt 3 = nI 3 from rfl, show Int32.ofInt 4 = nI 4 from rfl, walk_19 hV (by decide), walk_19 hV (by decide)] at G0
    have e : fi (srt tb = 8) (fi (can a (9 * 3 + 11)) (.inl (w, a, ac, md, lN (ul tb % 2 ^ 44), nI 3 + Int32.ofInt (-1), M)) (.inr (pgF ac, M))) (fi (can a (9 * 4 + 11)) (.inl (w, a, ac, md, lN (ul tb % 2 ^ 44), nI 4 + Int32.ofInt (-1), M)) (.inr (pgF ac, M))) =
        fi (can a (9 * dps tb + 11)) (.inl (w, a, ac, md, lN (ul tb % 2 ^ 44), nI (dps tb) + Int32.ofInt (-1), M)) ((.inr (pgF ac, M)) : (Nat × Int64 × Int32 × Int32 × Int64 × Int32 × FM) ⊕ (Int64 × FM)) := by
      unfold dps
      by_cases h : srt tb = 8
      · rw [fi_pos h, fi_pos h]
      · rw [fi_neg h, fi_neg h]
    rw [e] at G0
    unfold wlk0
    by_cases h1 : can a (9 * dps tb + 11)
    · rw [fi_pos h1] at G0
      rw [fi_pos h1]
      obtain ⟨N, n1, n2, n3⟩ := wlk_T (a := a) (ac := ac) Tm V I C hm (dps tb) (ul tb % 2 ^ 44) fN M (frW_r w M) (dps_le tb) (Nat.mod_lt _ (Nat.two_pow_pos 44)) (by have := dps_le tb; unfold fN; omega)
      exact ⟨N, n1, G0.trans n2, n3⟩
    · rw [fi_neg h1] at G0
      rw [fi_neg h1]
      exact ⟨M, frW_r w M, G0, Tm, ext_r M⟩
  obtain ⟨N, n1, n2, n3⟩ := key
  exact ⟨N, n1, op_of n2 n3⟩
theorem find_99 {M : FM} (hs : 0 < s ∧ s < 4096) (I : VGi K) (C : covR K F T) (Tm : Ty M) (n : fm_is M 101 101 w = true) (V : VGt w M K) {p : Int64} (hp : lg_cmp p (Int64.ofInt 0) < 0 ∨ ul p < 2 ^ 57) :
    ∃ N, FrW w M N ∧ HX101_find_99 w ac md (nI s) p M ∧ GX101_find_99 w ac md (nI s) p M = (finW F T K ac md s p, N) := by
  unfold GX101_find_99 GX101_find_122 GX101_find_131 finW
  by_cases h : lg_cmp p (Int64.ofInt 0) < 0
  · exact ⟨M, frW_r w M, ⟨fun _ => trivial, fun q => absurd h q⟩, by rw [fi_pos h, fi_pos h]⟩
  · obtain ⟨N, ⟨i1, i2⟩, fr⟩ := X101_isLet (ac := ac) (md := md) hs I C (hp.resolve_left h) Tm n V
    rw [lN_ul] at i1 i2
    refine ⟨N, fr, ⟨fun q => absurd q h, fun _ => ⟨i1, trivial⟩⟩, ?_⟩
    rw [fi_neg h, fi_neg h, i2]
    dsimp only
    rw [fi_bz, X101_accessFault]
    by_cases k : letS F T K.1 (ul p) s ac md 8 0
    · rw [fi_pos k, fi_pos k]
    · rw [fi_neg k, fi_neg k]
theorem is_acc {M : FM} (hm : md = 0 ∨ md = Int32.ofInt 1 ∨ md = Int32.ofInt 3) (hac : ac = 0 ∨ ac = Int32.ofInt 1 ∨ ac = Int32.ofInt 2) (hs : s = 1 ∨ s = 2 ∨ s = 4 ∨ s = 8) : GX101_isAccess ac md (nI s) M = (Int32.ofInt 1, M) := by
  have h26 : GX101_isAccess_21 ac md M = (Int32.ofInt 1, M) := by
    unfold GX101_isAccess_21 GX101_isAccess_26 GX101_isAccess_50 GX101_isAccess_58 GX101_isAccess_59
    rcases hac with rfl | rfl | rfl <;> rcases hm with rfl | rfl | rfl <;> simp (decide := true) only [fi_if, if_true, if_false]
  unfold GX101_isAccess GX101_isAccess_0
  rw [h26]
  rcases hs with rfl | rfl | rfl | rfl <;> simp (decide := true) only [fi_if, if_true, if_false]
theorem is_wth {M : FM} (h8 : s ≤ 8) (hw : ul a % 4096 + s ≤ 4096) : GX101_isWithin a (nI s) M = (Int32.ofInt 1, M) := by
  unfold GX101_isWithin GX101_isWithin_0 GX101_isWithin_20
  have e : a &&& Int64.ofInt 4095 = lN (ul a % 4096) := by
    apply ul_inj
    rw [ul_and, show ul (Int64.ofInt 4095) = 2 ^ 12 - 1 from rfl, Nat.and_two_pow_sub_one_eq_mod, l_big (by omega)]
  rw [e, o_64 (by omega), l_a (by omega), show Int64.ofInt 4096 = lN 4096 from rfl, fi_neg (fun q => by have := (o_gt (by omega) (by omega)).mp q; omega)]
/-- what the twin's memory keeps where its RAM is written -/
def FrKW (c : Nat) (M M' : FM) : Prop := M'.2.2 = M.2.2 ∧ (∀ f b i, ¬ (f = 3 ∧ b = M.2.2 391 c 0) → M'.1 f b i = M.1 f b i) ∧ ∀ f b i, ¬ (f = 3 ∧ (b = M.2.2 388 c 0 ∨ b = M.2.2 389 c 0)) → M'.2.1 f b i = M.2.1 f b i
theorem frK_rW (c : Nat) (M : FM) : FrKW c M M := ⟨rfl, fun _ _ _ _ => rfl, fun _ _ _ _ => rfl⟩
theorem frK_tW {M N X : FM} (h : FrKW c M N) (k : FrKW c N X) : FrKW c M X :=
  ⟨k.1.trans h.1, fun f b i z => (k.2.1 f b i (by rw [h.1]; exact z)).trans (h.2.1 f b i z), fun f b i z => (k.2.2 f b i (by rw [h.1]; exact z)).trans (h.2.2 f b i z)⟩
theorem pbM_f {M : FM} (a : Int64) (o : Nat) (v : Int32) : FrKW c M (pbM c a o v M) := by
  refine ⟨rfl, fun f b i z => if_neg (fun q => z ⟨q.1, q.2.1⟩), fun f b i z => ?_⟩
  show fi _ _ (if _ then _ else _) = _
  rw [fi_neg (fun q => z ⟨q.1, Or.inr q.2.1⟩), if_neg (fun q => z ⟨q.1, Or.inl q.2.1⟩)]
theorem kpM_f {M : FM} (a : Int64) (o : Nat) (v : Int64) : ∀ k, FrKW c M (kpM c a o v k M)
  | 0 => frK_rW c M
  | k + 1 => frK_tW (kpM_f a o v k) (pbM_f _ _ _)
theorem wrT_f {M : FM} (Tm : Ty M) (n : fm_is M 98 98 c = true) {o : Option (Nat × Int64)} (ho : ∀ q, o = some q → okR q.1) : FrKW c M (wrT c o M) ∧ Ty (wrT c o M) ∧ Ext M (wrT c o M) := by
  cases o with
  | none => exact ⟨frK_rW c M, Tm, ext_r M⟩
  | some q =>
    obtain ⟨x, h1, h2⟩ := okR_o (ho q rfl)
    have h := X93_keep (v := q.2) Tm n (sz := Int32.ofInt 8) rfl h1 (by decide) h2
    have g := (gX93_keep c (lN q.1) (Int32.ofInt 8) q.2 M h.1).2
    refine ⟨?_, g.1, g.2⟩
    show FrKW c M (GX93_keep c (lN q.1) (Int32.ofInt 8) q.2 M)
    rw [h.2]
    exact kpM_f _ _ _ _
theorem frK_W {M N : FM} (W : Wf M) (Tm : Ty M) (h : FrKW c M N) (V : WtV w c M K rt tb) : WtV w c N K rt tb := by
  obtain ⟨n, hc, nc, v, h5, h6, ht⟩ := V
  have e427 := sf_ne W (sS_427 W n) (sS_391 W nc) (lo := 901) rfl (tN_427 Tm.1 n) (by decide)
  have e428 := sf_ne W (sS_428 W n) (sS_388 W nc) (lo := 902) rfl (tN_428 Tm.1 n) (by decide)
  have e429 := sf_ne W (sS_428 W n) (sS_389 W nc) (lo := 902) rfl (tN_428 Tm.1 n) (by decide)
  have is : ∀ {lo hi b}, fm_is M lo hi b = true → fm_is N lo hi b = true := fun q => by
    unfold fm_is at *
    rw [h.1]
    exact q
  refine ⟨is n, by rw [h.1]; exact hc, is nc, ⟨fun i hi => ?_, fun i hi => ?_⟩, ?_, ?_, ?_⟩
  · rw [h.1, h.2.1 _ _ _ (fun q => e427 q.2)]
    exact v.1 i hi
  · rw [h.1, h.2.2 _ _ _ (fun q => q.2.elim e428 e429)]
    exact v.2 i hi
  · rw [h.2.1 _ _ _ (fun q => absurd q.1 (by decide))]
    exact h5
  · rw [h.2.1 _ _ _ (fun q => absurd q.1 (by decide))]
    exact h6
  · rw [h.2.2 _ _ _ (fun q => absurd q.1 (by decide))]
    exact ht
theorem frW_wf {M N : FM} (h : FrW w M N) (n : fm_is M 101 101 w = true) (W : Wf M) : Wf N := by
  obtain ⟨w1, ⟨w2, w2j⟩, w3, w4⟩ := W
  have hn : M.2.2 0 w 0 ≠ 0 := fm_ist rfl n
  refine ⟨fun a ha f i => ?_, ⟨fun q hq a ha => ?_, fun f a i hf hne => rp_k (M := M) (by rw [h.2.1]) (by rw [h.2.1]) (w2j.1 f a i hf (by rw [← h.2.1]; exact hne)), by rw [h.2.1]; exact w2j.2⟩, by rw [h.2.1]; exact w3, by unfold fm_nx; rw [h.2.1]; exact w4⟩
  · have ha' : fm_nx M ≤ a := by unfold fm_nx at *; rw [h.2.1] at ha; exact ha
    have hz := w1 a ha'
    rw [h.1, h.2.1, h.2.2 f a i (fun q => hn (by rw [← q.1]; exact (hz 0 0).2.2))]
    exact hz f i
  · unfold fm_is Sf at *
    rw [h.2.1] at *
    exact w2 q hq a ha
theorem X101_find {M : FM} (Tm : Ty M) (W : Wf M) (V : WtV w c M K rt tb) (I : VGi K) (C : covR K F T) (hm : md = 0 ∨ md = Int32.ofInt 1 ∨ md = Int32.ofInt 3) (hac : ac = 0 ∨ ac = Int32.ofInt 1 ∨ ac = Int32.ofInt 2) (hs : s = 1 ∨ s = 2 ∨ s = 4 ∨ s = 8) (hw : ul a % 4096 + s ≤ 4096) :
    ∃ N1 N2, FrW w (fm_sI M 422 w 0 (Int32.ofInt 0)) N1 ∧ FrW w (wrT c (wfd (ldT c M) (okLw F T K) (okSw F T K) rt ac md a tb).2.1 N1) N2 ∧
      HX101_find w a ac md (nI s) M ∧ GX101_find w a ac md (nI s) M = (finW F T K ac md s (wval (wfd (ldT c M) (okLw F T K) (okSw F T K) rt ac md a tb) (ul a % 4096)), N2) := by
  have hs2 : 0 < s ∧ s < 4096 := by omega
  unfold HX101_find HX101_find_0 GX101_find GX101_find_0
  rw [is_acc hm hac hs]
  dsimp only
  rw [is_wth (by omega) hw]
  dsimp only
  rw [fi_neg (by decide), fi_neg (by decide)]
  generalize hM1 : fm_sI M 422 w 0 (Int32.ofInt 0) = M1
  have T1 : Ty M1 := by rw [← hM1]; exact ⟨Tm.1, tyb_sI rfl Tm.2⟩
  have V1 : WtV w c M1 K rt tb := by
    rw [← hM1]
    obtain ⟨n, hc, nc, v, h5, h6, ht⟩ := V
    refine ⟨n, hc, nc, ⟨fun i hi => ?_, v.2⟩, ?_, ?_, ht⟩
    · rw [rI, if_neg (by omega)]
      exact v.1 i hi
    · rw [rI, if_neg (by omega)]
      exact h5
    · rw [rI, if_neg (by omega)]
      exact h6
  have W1 : Wf M1 := by rw [← hM1]; exact wf_sI W rfl V.1
  have eld : ∀ x, okR x → ldT c M1 x = ldT c M x := fun x hx => ldT_s Tm V.2.2.1 T1 V1.2.2.1 (fun i _ => by rw [← hM1]; rfl) hx
  have e422 : M1.1 422 w 0 ≤ 0 := by
    rw [← hM1, rI, if_pos ⟨rfl, rfl, rfl⟩]
    decide
  have g26 : HX101_find_26 w a ac md (nI s) w (Int32.ofInt 0) M = ((md = Int32.ofInt 3 → HX101_find_56 w a ac md (nI s) M1) ∧ (¬ md = Int32.ofInt 3 → ((srt tb = 0 → HX101_find_56 w a ac md (nI s) M1) ∧ (¬ srt tb = 0 → HX101_find_61 w a ac md (nI s) (Int32.ofInt 0) M1)))) ∧
      GX101_find_26 w a ac md (nI s) w (Int32.ofInt 0) M = fi (md = Int32.ofInt 3) (GX101_find_56 w a ac md (nI s) M1) (fi (srt tb = 0) (GX101_find_56 w a ac md (nI s) M1) (GX101_find_61 w a ac md (nI s) (Int32.ofInt 0) M1)) := by
    have hV : M1.2.1 424 w 0 = tb := V1.2.2.2.2.2.2
    unfold HX101_find_26 GX101_find_26 GX101_sortOf GX101_sortOf_0
    dsimp only
    rw [hM1, hV, fi_pos e422, propext (srt_0 tb)]
    refine ⟨propext ⟨fun h => h.1 e422, fun h => ⟨fun _ => h, fun q => absurd e422 q⟩⟩, rfl⟩
  rw [g26.2, fi_or]
  have n1 := V1.1
  have v1 := V1.2.2.2.1
  have lw := low_lt a
  -- plain
  have P56 : ∃ N2, FrW w M1 N2 ∧ HX101_find_56 w a ac md (nI s) M1 ∧ GX101_find_56 w a ac md (nI s) M1 = (finW F T K ac md s (fi (ul a < 2 ^ 56) a (acF ac)), N2) := by
    unfold HX101_find_56 GX101_find_56 HX101_find_61 GX101_find_61
    rw [fi_neg (by decide), propext (sh_56 a), X101_accessFault]
    dsimp only
    by_cases h : ul a < 2 ^ 56
    · obtain ⟨N, f1, f2, f3⟩ := find_99 (ac := ac) (md := md) hs2 I C T1 n1 v1 (p := a) (Or.inr (Nat.lt_trans h (by decide)))
      refine ⟨N, f1, ⟨fun q => absurd q (by decide), fun _ => ⟨fun _ => ?_, fun q => absurd h q⟩⟩, ?_⟩
      · unfold HX101_find_82
        exact ⟨fun q => absurd q (by decide), fun _ => f2⟩
      · rw [fi_pos h, fi_pos h]
        unfold GX101_find_82
        rw [fi_neg (by decide), f3]
    · refine ⟨M1, frW_r w M1, ⟨fun q => absurd q (by decide), fun _ => ⟨fun q => absurd q h, fun _ => trivial⟩⟩, ?_⟩
      rw [fi_neg h, fi_neg h]
      unfold finW
      rw [fi_pos (acF_n ac)]
  by_cases hp : pln md tb
  · obtain ⟨N2, p1, p2, p3⟩ := P56
    have ew : wval (wfd (ldT c M) (okLw F T K) (okSw F T K) rt ac md a tb) (ul a % 4096) = fi (ul a < 2 ^ 56) a (acF ac) ∧ (wfd (ldT c M) (okLw F T K) (okSw F T K) rt ac md a tb).2.1 = none := by
      unfold wfd
      rw [fi_pos hp]
      by_cases h : ul a < 2 ^ 56
      · rw [fi_pos h, fi_pos h]
        refine ⟨?_, rfl⟩
        show lN (ul a / 4096 * 4096 + ul a % 4096) = a
        rw [show ul a / 4096 * 4096 + ul a % 4096 = ul a by omega, lN_ul]
      · rw [fi_neg h, fi_neg h]
        exact ⟨rfl, rfl⟩
    rw [ew.1, ew.2]
    refine ⟨M1, N2, frW_r w M1, p1, ⟨fun q => absurd q (by decide), fun _ => ⟨fun q => absurd q (by decide), fun _ => ?_⟩⟩, ?_⟩
    · rw [g26.1]
      refine ⟨fun _ => p2, fun q => ⟨fun _ => p2, fun q2 => ?_⟩⟩
      exact absurd hp (fun z => z.elim q q2)
    · rw [fi_pos (show md = Int32.ofInt 3 ∨ srt tb = 0 from hp), p3]
  · have hm' : md = 0 ∨ md = Int32.ofInt 1 := by
      rcases hm with h | h | h
      · exact Or.inl h
      · exact Or.inr h
      · exact absurd (Or.inl h) hp
    obtain ⟨N1, w1, w2, w3⟩ := X101_walk (a := a) (ac := ac) T1 V1 I C hm'
    have ewl : wlk0 (ldT c M1) (okLw F T K) (okSw F T K) rt ac md a tb = wlk0 (ldT c M) (okLw F T K) (okSw F T K) rt ac md a tb := by
      unfold wlk0
      rw [wlk_c (ld := ldT c M) (ld' := ldT c M1) (dps tb) (ul tb % 2 ^ 44) (fun x hx => eld x ((wlk_ok _ _).2 x hx).1)]
    rw [ewl] at w3
    have ew : wfd (ldT c M) (okLw F T K) (okSw F T K) rt ac md a tb = wlk0 (ldT c M) (okLw F T K) (okSw F T K) rt ac md a tb := by
      unfold wfd
      rw [fi_neg hp]
    rw [ew]
    have okw : ∀ q, (wlk0 (ldT c M) (okLw F T K) (okSw F T K) rt ac md a tb).2.1 = some q → okR q.1 := fun q hq => (wlk0_ok.1 q hq).1
    have VN := frW_W w1 V1
    have TN := frW_ty w1 T1
    have WN := frW_wf w1 V1.1 W1
    obtain ⟨k1, k2, _⟩ := wrT_f (c := c) TN VN.2.2.1 okw
    have VX := frK_W WN TN k1 VN
    obtain ⟨N2, f1, f2, f3⟩ := find_99 (ac := ac) (md := md) hs2 I C k2 VX.1 VX.2.2.2.1 (wlk0_p (ld := ldT c M) (okL := okLw F T K) (okS := okSw F T K) (rt := rt) (ac := ac) (md := md) (a := a) (tb := tb))
    refine ⟨N1, N2, w1, f1, ⟨fun q => absurd q (by decide), fun _ => ⟨fun q => absurd q (by decide), fun _ => ?_⟩⟩, ?_⟩
    · rw [g26.1]
      refine ⟨fun q => absurd (Or.inl q) hp, fun _ => ⟨fun q => absurd (Or.inr q) hp, fun _ => ?_⟩⟩
      unfold HX101_find_61 HX101_find_82
      refine ⟨fun _ => ⟨fun _ => ⟨w2, ?_⟩, fun q => absurd rfl q⟩, fun q => absurd rfl q⟩
      rw [w3]
      exact f2
    · rw [fi_neg (show ¬ (md = Int32.ofInt 3 ∨ srt tb = 0) from hp)]
      unfold GX101_find_61 GX101_find_82
      rw [fi_pos (show Int32.ofInt 0 = 0 from rfl), fi_pos (show Int32.ofInt 0 = 0 from rfl)]
      dsimp only
      rw [w3]
      exact f3
end Fd
