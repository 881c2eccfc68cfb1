/-! walks: the twin's walk whole, and how it finds -/
set_option maxRecDepth 100000
section Ws
variable {ld ld' : Nat → Int64} {okL okL' okS okS' : Nat → Prop} {rt ac md : Int32} {A : Nat}
theorem lst_w {x : Nat} {e : Int64} {d : Nat} : ((lst okS rt ac md A x e d).2.1 = none ∨ (lst okS rt ac md A x e d).2.1 = some (x, e ||| mrk ac)) ∧ (lst okS rt ac md A x e d).2.2 = [x] := by
  unfold lst
  by_cases h : nin e % 2 ^ (9 * d) = 0 ∧ ¬ rfs rt e ac md
  · rw [fi_pos h]
    by_cases k : mkd e ac
    · rw [fi_pos k]
      exact ⟨Or.inl rfl, rfl⟩
    · rw [fi_neg k]
      by_cases q : okS x
      · rw [fi_pos q]
        exact ⟨Or.inr rfl, rfl⟩
      · rw [fi_neg q]
        exact ⟨Or.inl rfl, rfl⟩
  · rw [fi_neg h]
    exact ⟨Or.inl rfl, rfl⟩
/-- what is written stands where a walk may read; so do all places that were read -/
theorem wlk_ok : ∀ (d pg : Nat), (∀ q, (wlk ld okL okS rt ac md A d pg).2.1 = some q → okL q.1) ∧ ∀ x, x ∈ (wlk ld okL okS rt ac md A d pg).2.2 → okL x := by
  intro d
  induction d with
  | zero => exact fun pg => ⟨fun q h => (by cases h), fun x h => (by cases h)⟩
  | succ d ih =>
    intro pg
    unfold wlk
    by_cases h1 : okL (eat A d pg)
    · rw [fi_pos h1]
      have one : ∀ x, x ∈ [eat A d pg] → okL x := fun x hx => by
        rw [List.mem_singleton.mp hx]
        exact h1
      by_cases h2 : brk (ld (eat A d pg))
      · rw [fi_pos h2]
        exact ⟨fun q h => (by cases h), one⟩
      · rw [fi_neg h2]
        by_cases h3 : lea (ld (eat A d pg))
        · rw [fi_pos h3]
          obtain ⟨l1, l2⟩ := lst_w (okS := okS) (rt := rt) (ac := ac) (md := md) (A := A) (x := eat A d pg) (e := ld (eat A d pg)) (d := d)
          refine ⟨fun q hq => ?_, fun x hx => one x (by rw [l2] at hx; exact hx)⟩
          rcases l1 with l1 | l1
          · rw [l1] at hq
            cases hq
          · rw [l1] at hq
            cases hq
            exact h1
        · rw [fi_neg h3]
          by_cases h4 : d = 0 ∨ stp (ld (eat A d pg))
          · rw [fi_pos h4]
            exact ⟨fun q h => (by cases h), one⟩
          · rw [fi_neg h4]
            refine ⟨(ih (nin (ld (eat A d pg)))).1, fun x hx => ?_⟩
            rcases List.mem_cons.mp hx with h | h
            · rw [h]
              exact h1
            · exact (ih (nin (ld (eat A d pg)))).2 x h
    · rw [fi_neg h1]
      exact ⟨fun q h => (by cases h), fun x h => (by cases h)⟩
/-- a walk sees of memory only the entries that it reads -/
theorem wlk_c : ∀ (d pg : Nat), (∀ x, x ∈ (wlk ld okL okS rt ac md A d pg).2.2 → ld' x = ld x) → wlk ld' okL okS rt ac md A d pg = wlk ld okL okS rt ac md A d pg := by
  intro d
  induction d with
  | zero => exact fun pg _ => rfl
  | succ d ih =>
    intro pg h
    unfold wlk at h ⊢
    by_cases h1 : okL (eat A d pg)
    · rw [fi_pos h1] at h
      rw [fi_pos h1, fi_pos h1]
      have e : ld' (eat A d pg) = ld (eat A d pg) := by
        refine h _ ?_
        by_cases h2 : brk (ld (eat A d pg))
        · rw [fi_pos h2]
          exact List.mem_singleton.mpr rfl
        · rw [fi_neg h2]
          by_cases h3 : lea (ld (eat A d pg))
          · rw [fi_pos h3, lst_w.2]
            exact List.mem_singleton.mpr rfl
          · rw [fi_neg h3]
            by_cases h4 : d = 0 ∨ stp (ld (eat A d pg))
            · rw [fi_pos h4]
              exact List.mem_singleton.mpr rfl
            · rw [fi_neg h4]
              exact List.mem_cons.mpr (Or.inl rfl)
      rw [e]
      by_cases h2 : brk (ld (eat A d pg))
      · rw [fi_pos h2, fi_pos h2]
      · rw [fi_neg h2] at h
        rw [fi_neg h2, fi_neg h2]
        by_cases h3 : lea (ld (eat A d pg))
        · rw [fi_pos h3, fi_pos h3]
        · rw [fi_neg h3] at h
          rw [fi_neg h3, fi_neg h3]
          by_cases h4 : d = 0 ∨ stp (ld (eat A d pg))
          · rw [fi_pos h4, fi_pos h4]
          · rw [fi_neg h4] at h
            rw [fi_neg h4, fi_neg h4, ih (nin (ld (eat A d pg))) (fun x hx => h x (List.mem_cons.mpr (Or.inr hx)))]
    · rw [fi_neg h1, fi_neg h1]
end Ws
section Wu
variable {w c : Nat} {M : FM} {K : Rg} {F T : Nat → Nat} {rt ac md : Int32} {a tb : Int64}
theorem frW_ldT {N : FM} (Tm : Ty M) (nc : fm_is M 98 98 c = true) (h : FrW w M N) {x : Nat} (ok : okR x) : ldT c N x = ldT c M x :=
  ldT_s Tm nc (frW_ty h Tm) (frW_is h nc) (fun i _ => frW_tmb h i) ok
theorem wlk_T (Tm : Ty M) (V : WtV w c M K rt tb) (I : VGi K) (C : covR K F T) (hm : md = 0 ∨ md = Int32.ofInt 1) : ∀ (d pg J : Nat) (M' : FM), FrW w M M' → d ≤ 4 → pg < 2 ^ 44 → d < J →
    ∃ N, FrW w M N ∧ FX101_walk_L70 fN J w a ac md (lN pg) (nI d + Int32.ofInt (-1)) M' =
        some (wval (wlk (ldT c M) (okLw F T K) (okSw F T K) rt ac md (ul a / 4096) d pg) (ul a % 4096), wrT c (wlk (ldT c M) (okLw F T K) (okSw F T K) rt ac md (ul a / 4096) d pg).2.1 N) ∧
      OkV M (wrT c (wlk (ldT c M) (okLw F T K) (okSw F T K) rt ac md (ul a / 4096) d pg).2.1 N) := by
  intro d
  induction d with
  | zero =>
    intro pg J M' fr hd hp hJ
    obtain ⟨J, rfl⟩ : ∃ x, J = x + 1 := ⟨J - 1, by omega⟩
    refine ⟨M', fr, ?_, frW_ty fr Tm, frW_ext fr⟩
    show FX101_walk_70 fN (FX101_walk_L70 fN J) w a ac md (lN pg) (nI 0 + Int32.ofInt (-1)) M' = _
    rw [(gX101_walk_70 (FX101_walk_L70 fN J) w a ac md (lN pg) (nI 0 + Int32.ofInt (-1)) M' (frW_ty fr Tm) (frW_is fr V.1) ⟨fun _ => trivial, fun q => absurd n_neg q⟩).1]
    unfold GX101_walk_70
    rw [fi_pos n_neg, X101_pageFault]
    rfl
  | succ d ih =>
    intro pg J M' fr hd hp hJ
    obtain ⟨J, rfl⟩ : ∃ x, J = x + 1 := ⟨J - 1, by omega⟩
    have p44 : (2 : Nat) ^ 44 = 17592186044416 := by decide
    have T' := frW_ty fr Tm
    have V' := frW_W fr V
    have V0 := V'
    obtain ⟨n', hc, nc, v, h5, h6, htb⟩ := V'
    have hx := eat_lt (A := ul a / 4096) (d := d) hp
    have nn : ¬ nI d < 0 := n_nn (by omega)
    rw [dn_2 (by omega)]
    -- the place
    have ex : Int64.ofInt 4096 * lN pg + Int64.ofInt 8 * ((a.toUInt64 >>> ((Int32.ofInt 12 + Int32.ofInt 9 * nI d).toInt64.toUInt64 &&& Int64.toUInt64 63)).toInt64 &&& Int64.ofInt 511) = lN (eat (ul a / 4096) d pg) := by
      have e1 : (a.toUInt64 >>> ((Int32.ofInt 12 + Int32.ofInt 9 * nI d).toInt64.toUInt64 &&& Int64.toUInt64 63)).toInt64 &&& Int64.ofInt 511 = lN (ul a / 4096 / 2 ^ (9 * d) % 512) := by
        apply ul_inj
        rw [ul_and, show ul (Int64.ofInt 511) = 2 ^ 9 - 1 from rfl, Nat.and_two_pow_sub_one_eq_mod, ul_ushr, show Int32.ofInt 12 + Int32.ofInt 9 * nI d = nI (12 + 9 * d) by rw [lb_ushr9]; exact nI_a, ui_nI, show (12 + 9 * d) % 4294967296 % 64 = 12 + 9 * d by omega, vp a (by omega), l_big (by omega)]
      rw [e1, show Int64.ofInt 4096 = lN 4096 from rfl, show Int64.ofInt 8 = lN 8 from rfl, l_m (by omega) (by omega) (by omega), l_m (by omega) (by omega) (by omega), l_a (by omega)]
      rfl
    have ab : GX93_areBytes (lN (eat (ul a / 4096) d pg)) (Int64.ofInt 8) M' = (bz (okR (eat (ul a / 4096) d pg)), M') := by
      rw [X93_areBytes (by decide)]
      refine congrArg (fun z => (z, M')) (bz_c ⟨fun q => q.2, fun q => ⟨?_, q⟩⟩)
      unfold okR inR at q
      unfold inR
      omega
    obtain ⟨N1, ⟨i1, i2⟩, fr1⟩ := X101_isLet (ac := Int32.ofInt 1) (md := Int32.ofInt 1) (s := 8) (by decide) I C hx T' n' v
    have frN := frW_t fr fr1
    have TN := frW_ty fr1 T'
    have VN := frW_W fr1 V0
    have nd := frW_is fr1 n'
    have hcN := VN.2.1
    show ∃ N, FrW w M N ∧ FX101_walk_70 fN (FX101_walk_L70 fN J) w a ac md (lN pg) (nI d) M' = _ ∧ _
    unfold wlk
    generalize hX : eat (ul a / 4096) d pg = x at *
    by_cases ok : okR x
    · have le : ldT c N1 x = ldT c M x := frW_ldT Tm V.2.2.1 frN ok
      obtain ⟨ln1, ln2⟩ := ldT_e (c := c) TN VN.2.2.1 ok
      rw [le] at ln2
      generalize hE : ldT c M x = e at *
      have br := X101_isBroken (M := N1) e
      have b1 := X101_bit (M := N1) e (k := 1) (by decide)
      have b3 := X101_bit (M := N1) e (k := 3) (by decide)
      have b4 := X101_bit (M := N1) e (k := 4) (by decide)
      have b6 := X101_bit (M := N1) e (k := 6) (by decide)
      have b7 := X101_bit (M := N1) e (k := 7) (by decide)
      obtain ⟨N2, fr2, la1, la2⟩ := X101_last (ac := ac) (a := a) TN VN I C hm hx ok (show d ≤ 3 by omega)
      rw [le] at la2
      have laG := (gX101_last w a ac md (lN x) (nI d) N1 TN nd la1).2
      rw [la2] at laG
      have hH : HX101_walk_70 w a ac md (lN pg) (nI d) M' := by
        refine ⟨fun q => absurd q nn, fun _ => ?_⟩
        rw [ex]
        dsimp only
        rw [ab]
        dsimp only
        refine ⟨fun _ => trivial, fun _ => ⟨i1, ?_⟩⟩
        rw [show Int32.ofInt 8 = nI 8 from rfl, i2]
        dsimp only
        refine ⟨fun _ => trivial, fun _ => ?_⟩
        rw [hcN]
        refine ⟨ln1, ?_⟩
        rw [show nI 8 = Int32.ofInt 8 from rfl, ln2]
        dsimp only
        rw [br]
        dsimp only
        rw [show Int32.ofInt 1 = nI 1 from rfl, show Int32.ofInt 3 = nI 3 from rfl, b1]
        dsimp only
        rw [b3]
        exact ⟨fun _ => ⟨fun _ => ⟨fun _ => trivial, fun _ => ⟨la1, trivial⟩⟩, fun _ => ⟨la1, trivial⟩⟩, fun _ => trivial⟩
      have G0 := (gX101_walk_70 (FX101_walk_L70 fN J) w a ac md (lN pg) (nI d) M' T' n' hH).1
      unfold GX101_walk_70 GX101_walk_126 GX101_walk_175 GX101_walk_222 at G0
      dsimp only at G0
      rw [fi_neg nn, ex, ab] at G0
      dsimp only at G0
      rw [fi_bz, fi_pos ok, show GX101_isLet w (lN x) (Int32.ofInt 1) (Int32.ofInt 1) (Int32.ofInt 8) M' = _ from i2] at G0
      dsimp only at G0
      rw [fi_bz, hcN, ln2] at G0
      dsimp only at G0
      rw [br] at G0
      dsimp only at G0
      rw [show GX101_bit e (Int32.ofInt 1) N1 = _ from b1] at G0
      dsimp only at G0
      rw [show GX101_bit e (Int32.ofInt 3) N1 = _ from b3] at G0
      dsimp only at G0
      rw [show GX101_bit e (Int32.ofInt 4) N1 = _ from b4] at G0
      dsimp only at G0
      rw [show GX101_bit e (Int32.ofInt 6) N1 = _ from b6] at G0
      dsimp only at G0
      rw [show GX101_bit e (Int32.ofInt 7) N1 = _ from b7] at G0
      dsimp only at G0
      rw [fi_bz, fi_bz, fi_bz, fi_bz, fi_bz, fi_bz, X101_pageFault, X101_accessFault, X101_numberIn, la2] at G0
      dsimp only at G0
      by_cases hl : letS F T K.1 x 8 (Int32.ofInt 1) (Int32.ofInt 1) 8 0
      · rw [fi_pos hl] at G0
        rw [fi_pos (show okLw F T K x from ⟨ok, hl⟩)]
        by_cases h2 : brk e
        · rw [fi_pos h2] at G0
          rw [fi_pos h2]
          exact ⟨N1, frN, G0, TN, frW_ext frN⟩
        · rw [fi_neg h2] at G0
          rw [fi_neg h2]
          have LA : FX101_walk_70 fN (FX101_walk_L70 fN J) w a ac md (lN pg) (nI d) M' = some (wval (lst (okSw F T K) rt ac md (ul a / 4096) x e d) (ul a % 4096), wrT c (lst (okSw F T K) rt ac md (ul a / 4096) x e d).2.1 N2) →
              ∃ N, FrW w M N ∧ FX101_walk_70 fN (FX101_walk_L70 fN J) w a ac md (lN pg) (nI d) M' = some (wval (lst (okSw F T K) rt ac md (ul a / 4096) x e d) (ul a % 4096), wrT c (lst (okSw F T K) rt ac md (ul a / 4096) x e d).2.1 N) ∧ OkV M (wrT c (lst (okSw F T K) rt ac md (ul a / 4096) x e d).2.1 N) := fun z =>
            ⟨N2, frW_t frN fr2, z, laG.1, ext_tr (frW_ext frN) laG.2⟩
          by_cases h1 : lb e 1 = true
          · rw [fi_pos h1] at G0
            rw [fi_pos (show lea e from Or.inl h1)]
            exact LA G0
          · rw [fi_neg h1] at G0
            by_cases h3 : lb e 3 = true
            · rw [fi_pos h3] at G0
              rw [fi_pos (show lea e from Or.inr h3)]
              exact LA G0
            · rw [fi_neg h3] at G0
              rw [fi_neg (show ¬ lea e from fun z => z.elim h1 h3)]
              have i0 : nI d = 0 ↔ d = 0 := ⟨fun q => nI_j (by omega) (by decide) q, fun q => by rw [q]; rfl⟩
              rw [propext i0] at G0
              by_cases hd0 : d = 0
              · rw [fi_pos hd0] at G0
                rw [fi_pos (show d = 0 ∨ stp e from Or.inl hd0)]
                exact ⟨N1, frN, G0, TN, frW_ext frN⟩
              · rw [fi_neg hd0] at G0
                by_cases h4 : lb e 4 = true
                · rw [fi_pos h4] at G0
                  rw [fi_pos (show d = 0 ∨ stp e from Or.inr (Or.inl h4))]
                  exact ⟨N1, frN, G0, TN, frW_ext frN⟩
                · rw [fi_neg h4] at G0
                  by_cases h6 : lb e 6 = true
                  · rw [fi_pos h6] at G0
                    rw [fi_pos (show d = 0 ∨ stp e from Or.inr (Or.inr (Or.inl h6)))]
                    exact ⟨N1, frN, G0, TN, frW_ext frN⟩
                  · rw [fi_neg h6] at G0
                    by_cases h7 : lb e 7 = true
                    · rw [fi_pos h7] at G0
                      rw [fi_pos (show d = 0 ∨ stp e from Or.inr (Or.inr (Or.inr h7)))]
                      exact ⟨N1, frN, G0, TN, frW_ext frN⟩
                    · rw [fi_neg h7] at G0
                      rw [fi_neg (show ¬ (d = 0 ∨ stp e) from fun z => z.elim hd0 (fun z => z.elim h4 (fun z => z.elim h6 h7)))]
                      obtain ⟨X, x1, x2, x3⟩ := ih (nin e) J N1 frN (by omega) (nin_lt e) (by omega)
                      exact ⟨X, x1, G0.trans x2, x3⟩
      · rw [fi_neg hl] at G0
        rw [fi_neg (show ¬ okLw F T K x from fun z => hl z.2)]
        exact ⟨N1, frN, G0, TN, frW_ext frN⟩
    · have hH : HX101_walk_70 w a ac md (lN pg) (nI d) M' := by
        refine ⟨fun q => absurd q nn, fun _ => ?_⟩
        rw [ex]
        dsimp only
        rw [ab]
        dsimp only
        exact ⟨fun _ => trivial, fun q => absurd (bz_0.mpr ok) q⟩
      have G0 := (gX101_walk_70 (FX101_walk_L70 fN J) w a ac md (lN pg) (nI d) M' T' n' hH).1
      unfold GX101_walk_70 GX101_walk_126 at G0
      dsimp only at G0
      rw [fi_neg nn, ex, ab] at G0
      dsimp only at G0
      rw [fi_bz, fi_neg ok, X101_accessFault] at G0
      rw [fi_neg (show ¬ okLw F T K x from fun z => ok z.1)]
      exact ⟨M', fr, G0, T', frW_ext fr⟩
end Wu
