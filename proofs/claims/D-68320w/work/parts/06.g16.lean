/-! functions without guards, printed by gen/gg.py -/
set_option maxRecDepth 100000
noncomputable def GX0_feed (a0 : Nat) (a1 : Int32) (a2 : Int32) (a3 : Int32) (a4 : Int32) (a5 : Int32) (a6 : Nat) (M : FM) : Int32 × FM := (Fh_law_feed fN a0 a1 a2 a3 a4 a5 a6 M).getD (0, M)
def HX0_feed (a0 : Nat) (a1 : Int32) (a2 : Int32) (a3 : Int32) (a4 : Int32) (a5 : Int32) (a6 : Nat) (M : FM) : Prop := ∃ r, Fh_law_feed fN a0 a1 a2 a3 a4 a5 a6 M = some r ∧ OkR M r
theorem gX0_feed (a0 : Nat) (a1 : Int32) (a2 : Int32) (a3 : Int32) (a4 : Int32) (a5 : Int32) (a6 : Nat) (M : FM) (h : HX0_feed a0 a1 a2 a3 a4 a5 a6 M) : gd (Fh_law_feed fN a0 a1 a2 a3 a4 a5 a6 M) (GX0_feed a0 a1 a2 a3 a4 a5 a6 M) (OkR M) := gd_op h
def kX1_sum (k72 : Nat → Int64 → Int64 → Int64 → FM → Option (Int64 × FM)) : (Nat × Int64 × Int64 × Int64 × FM) ⊕ (Int64 × FM) → Option (Int64 × FM)
  | .inl (v0, v1, v2, v3, M') => k72 v0 v1 v2 v3 M'
  | .inr (r) => some r
def pX1_sum (M : FM) : (Nat × Int64 × Int64 × Int64 × FM) ⊕ (Int64 × FM) → Prop
  | .inl (_, _, _, _, M') => OkV M M'
  | .inr (r) => OkR M r
theorem pX1_sum_t {M M1 : FM} (e : Ext M M1) : ∀ y, pX1_sum M1 y → pX1_sum M y
  | .inl (_, _, _, _, _), h => ⟨h.1, ext_tr e h.2⟩
  | .inr (r), h => ⟨h.1, ext_tr e h.2⟩
noncomputable def GX1_sum_63 (a0 : Nat) (a1 : Int64) (a3 : Int64) (s0 : Int32) (M : FM) : (Nat × Int64 × Int64 × Int64 × FM) ⊕ (Int64 × FM) :=
  let M1 : FM := GX1_there s0 M
  (.inl (a0, a3, (Int64.ofInt 0), a1, M1))
def HX1_sum_63 (a0 : Nat) (a1 : Int64) (a3 : Int64) (s0 : Int32) (M : FM) : Prop := (HX1_there s0 M ∧ True)
theorem gX1_sum_63 (k72 : Nat → Int64 → Int64 → Int64 → FM → Option (Int64 × FM)) (a0 : Nat) (a1 : Int64) (a3 : Int64) (s0 : Int32) (M : FM) (T : Ty M) (h : HX1_sum_63 a0 a1 a3 s0 M) : gs (FX1_sum_63 fN k72 a0 a1 a3 s0 M) (GX1_sum_63 a0 a1 a3 s0 M) (kX1_sum k72) (pX1_sum M) := by
  delta FX1_sum_63 BX1_sum_63
  refine gs_b (gX1_there _ _ ⟨T.1, T.2⟩  h.1) (fun K0 => ?_)
  exact And.intro rfl (And.intro (And.intro K0.1.1 K0.1.2) K0.2)
noncomputable def GX1_sum_58 (a0 : Nat) (a1 : Int64) (a3 : Int64) (M : FM) : (Nat × Int64 × Int64 × Int64 × FM) ⊕ (Int64 × FM) :=
  GX1_sum_63 a0 a1 a3 (Int32.ofInt 1) M
def HX1_sum_58 (a0 : Nat) (a1 : Int64) (a3 : Int64) (M : FM) : Prop := HX1_sum_63 a0 a1 a3 (Int32.ofInt 1) M
theorem gX1_sum_58 (k72 : Nat → Int64 → Int64 → Int64 → FM → Option (Int64 × FM)) (a0 : Nat) (a1 : Int64) (a3 : Int64) (M : FM) (T : Ty M) (h : HX1_sum_58 a0 a1 a3 M) : gs (FX1_sum_58 fN k72 a0 a1 a3 M) (GX1_sum_58 a0 a1 a3 M) (kX1_sum k72) (pX1_sum M) := by
  delta FX1_sum_58 BX1_sum_58
  exact gs_t (pX1_sum_t (ext_r _)) (gX1_sum_63 k72 _ _ _ _ _ ⟨T.1, T.2⟩  h)
noncomputable def GX1_sum_29 (a0 : Nat) (a1 : Int64) (a3 : Int64) (s0 : Int32) (M : FM) : (Nat × Int64 × Int64 × Int64 × FM) ⊕ (Int64 × FM) :=
  let M1 : FM := GX1_proper s0 M
  fi ((lg_cmp a3 a1) = 0) (
    GX1_sum_58 a0 a1 a3 M1) (
    let x2 : Nat := (M1.2.2 17 a0 0)
    let x3 : Nat := (M1.2.2 189 x2 0)
    let x4 : Nat := (M1.2.2 18 x3 0)
    let r5 : Int32 × FM := GX11_has x4 a1 (a3 - a1) M1
    fi (r5.1 = 0) (
      GX1_sum_63 a0 a1 a3 (Int32.ofInt 0) r5.2) (
      GX1_sum_58 a0 a1 a3 r5.2))
def HX1_sum_29 (a0 : Nat) (a1 : Int64) (a3 : Int64) (s0 : Int32) (M : FM) : Prop := (HX1_proper s0 M ∧ let M1 : FM := GX1_proper s0 M; (((lg_cmp a3 a1) = 0 → HX1_sum_58 a0 a1 a3 M1) ∧ (¬ ((lg_cmp a3 a1) = 0) → let x2 : Nat := (M1.2.2 17 a0 0); let x3 : Nat := (M1.2.2 189 x2 0); let x4 : Nat := (M1.2.2 18 x3 0); let r5 : Int32 × FM := GX11_has x4 a1 (a3 - a1) M1; ((r5.1 = 0 → HX1_sum_63 a0 a1 a3 (Int32.ofInt 0) r5.2) ∧ (¬ (r5.1 = 0) → HX1_sum_58 a0 a1 a3 r5.2)))))
theorem gX1_sum_29 (k72 : Nat → Int64 → Int64 → Int64 → FM → Option (Int64 × FM)) (a0 : Nat) (a1 : Int64) (a3 : Int64) (s0 : Int32) (M : FM) (T : Ty M) (n_a0 : fm_is M 10 10 a0 = true) (h : HX1_sum_29 a0 a1 a3 s0 M) : gs (FX1_sum_29 fN k72 a0 a1 a3 s0 M) (GX1_sum_29 a0 a1 a3 s0 M) (kX1_sum k72) (pX1_sum M) := by
  delta FX1_sum_29 BX1_sum_29
  refine gs_b (gX1_proper _ _ ⟨T.1, T.2⟩  h.1) (fun K0 => ?_)
  refine gs_fi (fun c1_0 => ?_) (fun c1_0 => ?_)
  · exact gs_t (pX1_sum_t K0.2) (gX1_sum_58 k72 _ _ _ _ ⟨K0.1.1, K0.1.2⟩  (h.2.1 c1_0))
  · have f2 := (ext_is K0.2 (Nat.zero_lt_succ _) n_a0)
    refine gs_c f2 ?_
    have f3 := (tN_17 K0.1.1 (ext_is K0.2 (Nat.zero_lt_succ _) n_a0))
    refine gs_c f3 ?_
    have f4 := (tN_189 K0.1.1 (tN_17 K0.1.1 (ext_is K0.2 (Nat.zero_lt_succ _) n_a0)))
    refine gs_c f4 ?_
    have f5 := (tN_18 K0.1.1 (tN_189 K0.1.1 (tN_17 K0.1.1 (ext_is K0.2 (Nat.zero_lt_succ _) n_a0))))
    refine gs_c f5 ?_
    have f8 := (tN_18 K0.1.1 (tN_189 K0.1.1 (tN_17 K0.1.1 (ext_is K0.2 (Nat.zero_lt_succ _) n_a0))))
    refine gs_b (gX11_has _ _ _ _ ⟨K0.1.1, K0.1.2⟩ f8 ) (fun K6 => ?_)
    refine gs_fi (fun c7_0 => ?_) (fun c7_0 => ?_)
    · exact gs_t (pX1_sum_t (ext_tr K0.2 K6.2.1)) (gX1_sum_63 k72 _ _ _ _ _ ⟨K6.1.1, K6.1.2⟩  ((h.2.2 c1_0).1 c7_0))
    · exact gs_t (pX1_sum_t (ext_tr K0.2 K6.2.1)) (gX1_sum_58 k72 _ _ _ _ ⟨K6.1.1, K6.1.2⟩  ((h.2.2 c1_0).2 c7_0))
noncomputable def GX1_sum_28 (a0 : Nat) (a1 : Int64) (a3 : Int64) (M : FM) : (Nat × Int64 × Int64 × Int64 × FM) ⊕ (Int64 × FM) :=
  GX1_sum_29 a0 a1 a3 (Int32.ofInt 0) M
def HX1_sum_28 (a0 : Nat) (a1 : Int64) (a3 : Int64) (M : FM) : Prop := HX1_sum_29 a0 a1 a3 (Int32.ofInt 0) M
theorem gX1_sum_28 (k72 : Nat → Int64 → Int64 → Int64 → FM → Option (Int64 × FM)) (a0 : Nat) (a1 : Int64) (a3 : Int64) (M : FM) (T : Ty M) (n_a0 : fm_is M 10 10 a0 = true) (h : HX1_sum_28 a0 a1 a3 M) : gs (FX1_sum_28 fN k72 a0 a1 a3 M) (GX1_sum_28 a0 a1 a3 M) (kX1_sum k72) (pX1_sum M) := by
  delta FX1_sum_28 BX1_sum_28
  exact gs_t (pX1_sum_t (ext_r _)) (gX1_sum_29 k72 _ _ _ _ _ ⟨T.1, T.2⟩ n_a0 h)
noncomputable def GX1_sum_0 (a0 : Nat) (a1 : Int64) (a3 : Int64) (M : FM) : (Nat × Int64 × Int64 × Int64 × FM) ⊕ (Int64 × FM) :=
  fi ((lg_cmp a3 a1) < 0) (
    GX1_sum_28 a0 a1 a3 M) (
    fi ((lg_cmp (a3 - a1) (Int64.ofInt 0)) < 0) (
      GX1_sum_28 a0 a1 a3 M) (
      fi (0 < (lg_cmp (a3 - a1) (Int64.ofInt 65536))) (
        GX1_sum_28 a0 a1 a3 M) (
        GX1_sum_29 a0 a1 a3 (Int32.ofInt 1) M)))
def HX1_sum_0 (a0 : Nat) (a1 : Int64) (a3 : Int64) (M : FM) : Prop := (((lg_cmp a3 a1) < 0 → HX1_sum_28 a0 a1 a3 M) ∧ (¬ ((lg_cmp a3 a1) < 0) → (((lg_cmp (a3 - a1) (Int64.ofInt 0)) < 0 → HX1_sum_28 a0 a1 a3 M) ∧ (¬ ((lg_cmp (a3 - a1) (Int64.ofInt 0)) < 0) → ((0 < (lg_cmp (a3 - a1) (Int64.ofInt 65536)) → HX1_sum_28 a0 a1 a3 M) ∧ (¬ (0 < (lg_cmp (a3 - a1) (Int64.ofInt 65536))) → HX1_sum_29 a0 a1 a3 (Int32.ofInt 1) M))))))
theorem gX1_sum_0 (k72 : Nat → Int64 → Int64 → Int64 → FM → Option (Int64 × FM)) (a0 : Nat) (a1 : Int64) (a3 : Int64) (M : FM) (T : Ty M) (n_a0 : fm_is M 10 10 a0 = true) (h : HX1_sum_0 a0 a1 a3 M) : gs (FX1_sum_0 fN k72 a0 a1 a3 M) (GX1_sum_0 a0 a1 a3 M) (kX1_sum k72) (pX1_sum M) := by
  delta FX1_sum_0 BX1_sum_0
  refine gs_fi (fun c0_0 => ?_) (fun c0_0 => ?_)
  · exact gs_t (pX1_sum_t (ext_r _)) (gX1_sum_28 k72 _ _ _ _ ⟨T.1, T.2⟩ n_a0 (h.1 c0_0))
  · refine gs_fi (fun c1_0 => ?_) (fun c1_0 => ?_)
    · exact gs_t (pX1_sum_t (ext_r _)) (gX1_sum_28 k72 _ _ _ _ ⟨T.1, T.2⟩ n_a0 ((h.2 c0_0).1 c1_0))
    · refine gs_fi (fun c2_0 => ?_) (fun c2_0 => ?_)
      · exact gs_t (pX1_sum_t (ext_r _)) (gX1_sum_28 k72 _ _ _ _ ⟨T.1, T.2⟩ n_a0 (((h.2 c0_0).2 c1_0).1 c2_0))
      · exact gs_t (pX1_sum_t (ext_r _)) (gX1_sum_29 k72 _ _ _ _ _ ⟨T.1, T.2⟩ n_a0 (((h.2 c0_0).2 c1_0).2 c2_0))
noncomputable def GX1_sum_72 (a0 : Nat) (a3 : Int64) (a5 : Int64) (a7 : Int64) (M : FM) : (Nat × Int64 × Int64 × Int64 × FM) ⊕ (Int64 × FM) :=
  fi (0 ≤ (lg_cmp a7 a3)) (
    (.inr (a5, M))) (
    let x1 : Nat := (M.2.2 17 a0 0)
    let x2 : Nat := (M.2.2 189 x1 0)
    let x3 : Nat := (M.2.2 18 x2 0)
    let r4 : Int64 × FM := GX11_load x3 a7 (Int32.ofInt 1) M
    let x5 : Int64 := (((Int64.ofInt 31) * a5) + r4.1)
    let x6 : Int64 := (a7 + (Int64.ofInt 1))
    (.inl (a0, a3, x5, x6, r4.2)))
def HX1_sum_72 (a0 : Nat) (a3 : Int64) (a5 : Int64) (a7 : Int64) (M : FM) : Prop := ((0 ≤ (lg_cmp a7 a3) → True) ∧ (¬ (0 ≤ (lg_cmp a7 a3)) → let x1 : Nat := (M.2.2 17 a0 0); let x2 : Nat := (M.2.2 189 x1 0); let x3 : Nat := (M.2.2 18 x2 0); (HX11_load x3 a7 (Int32.ofInt 1) M ∧ True)))
theorem gX1_sum_72 (k72 : Nat → Int64 → Int64 → Int64 → FM → Option (Int64 × FM)) (a0 : Nat) (a3 : Int64) (a5 : Int64) (a7 : Int64) (M : FM) (T : Ty M) (n_a0 : fm_is M 10 10 a0 = true) (h : HX1_sum_72 a0 a3 a5 a7 M) : gs (FX1_sum_72 fN k72 a0 a3 a5 a7 M) (GX1_sum_72 a0 a3 a5 a7 M) (kX1_sum k72) (pX1_sum M) := by
  delta FX1_sum_72 BX1_sum_72
  refine gs_fi (fun c0_0 => ?_) (fun c0_0 => ?_)
  · exact And.intro rfl (And.intro (And.intro T.1 T.2) ((ext_r _)))
  · refine gs_c n_a0 ?_
    have f1 := (tN_17 T.1 n_a0)
    refine gs_c f1 ?_
    have f2 := (tN_189 T.1 (tN_17 T.1 n_a0))
    refine gs_c f2 ?_
    have f3 := (tN_18 T.1 (tN_189 T.1 (tN_17 T.1 n_a0)))
    refine gs_c f3 ?_
    have f5 := (tN_18 T.1 (tN_189 T.1 (tN_17 T.1 n_a0)))
    refine gs_b (gX11_load _ _ _ _ ⟨T.1, T.2⟩ f5 (h.2 c0_0).1) (fun K4 => ?_)
    exact And.intro rfl (And.intro (And.intro K4.1.1 K4.1.2) K4.2)
noncomputable def GX1_sum (a0 : Nat) (a1 : Int64) (a2 : Int64) (M : FM) : Int64 × FM := (FX1_sum fN a0 a1 a2 M).getD (0, M)
def HX1_sum (a0 : Nat) (a1 : Int64) (a2 : Int64) (M : FM) : Prop := ∃ r, FX1_sum fN a0 a1 a2 M = some r ∧ OkR M r
theorem gX1_sum (a0 : Nat) (a1 : Int64) (a2 : Int64) (M : FM) (h : HX1_sum a0 a1 a2 M) : gd (FX1_sum fN a0 a1 a2 M) (GX1_sum a0 a1 a2 M) (OkR M) := gd_op h
noncomputable def GX0_sum (a0 : Nat) (a1 : Int64) (a2 : Int64) (a3 : Nat) (M : FM) : Int32 × FM := (Fh_law_sum fN a0 a1 a2 a3 M).getD (0, M)
def HX0_sum (a0 : Nat) (a1 : Int64) (a2 : Int64) (a3 : Nat) (M : FM) : Prop := ∃ r, Fh_law_sum fN a0 a1 a2 a3 M = some r ∧ OkR M r
theorem gX0_sum (a0 : Nat) (a1 : Int64) (a2 : Int64) (a3 : Nat) (M : FM) (h : HX0_sum a0 a1 a2 a3 M) : gd (Fh_law_sum fN a0 a1 a2 a3 M) (GX0_sum a0 a1 a2 a3 M) (OkR M) := gd_op h
noncomputable def GX96_out_48 (s0 : Int32) (M : FM) : Int32 × FM :=
  (s0, M)
theorem gX96_out_48 (s0 : Int32) (M : FM) (T : Ty M) : gd (FX96_out_48 s0 M) (GX96_out_48 s0 M) (OkR M) := by
  delta FX96_out_48 BX96_out_48
  exact ⟨rfl, ⟨T.1, T.2⟩, (ext_r _)⟩
noncomputable def GX96_out_33 (M : FM) : Int32 × FM :=
  GX96_out_48 (Int32.ofInt (-1)) M
theorem gX96_out_33 (M : FM) (T : Ty M) : gd (FX96_out_33 M) (GX96_out_33 M) (OkR M) := by
  delta FX96_out_33 BX96_out_33
  exact gd_tR (ext_r _) (gX96_out_48 _ _ ⟨T.1, T.2⟩  )
noncomputable def GX96_out_0 (a0 : Nat) (a1 : Int64) (M : FM) : Int32 × FM :=
  let M1 : FM := fm_sI M 394 a0 0 (Int32.ofInt 0)
  fi ((lg_cmp a1 (Int64.ofInt 0)) < 0) (
    GX96_out_33 M1) (
    fi (0 ≤ (lg_cmp a1 (M1.2.1 413 a0 0))) (
      GX96_out_33 M1) (
      fi (0 ≤ (lg_cmp a1 ((M1.2.1 413 a0 0) - (Int64.ofInt 4096)))) (
        let x2 : Int32 := (a1 - a1 / (Int64.ofInt 4096) * (Int64.ofInt 4096)).toInt32
        let x3 : Nat := (M1.2.2 412 a0 0)
        GX96_out_48 (M1.1 3 x3 x2.toNatClampNeg) M1) (
        GX96_out_33 M1)))
def HX96_out_0 (a0 : Nat) (a1 : Int64) (M : FM) : Prop := let M1 : FM := fm_sI M 394 a0 0 (Int32.ofInt 0); (((lg_cmp a1 (Int64.ofInt 0)) < 0 → True) ∧ (¬ ((lg_cmp a1 (Int64.ofInt 0)) < 0) → ((0 ≤ (lg_cmp a1 (M1.2.1 413 a0 0)) → True) ∧ (¬ (0 ≤ (lg_cmp a1 (M1.2.1 413 a0 0))) → ((0 ≤ (lg_cmp a1 ((M1.2.1 413 a0 0) - (Int64.ofInt 4096))) → let x2 : Int32 := (a1 - a1 / (Int64.ofInt 4096) * (Int64.ofInt 4096)).toInt32; let x3 : Nat := (M1.2.2 412 a0 0); (fm_in M1 x3 x2 = true ∧ True)) ∧ (¬ (0 ≤ (lg_cmp a1 ((M1.2.1 413 a0 0) - (Int64.ofInt 4096)))) → True))))))
theorem gX96_out_0 (a0 : Nat) (a1 : Int64) (M : FM) (T : Ty M) (n_a0 : fm_is M 99 99 a0 = true) (h : HX96_out_0 a0 a1 M) : gd (FX96_out_0 a0 a1 M) (GX96_out_0 a0 a1 M) (OkR M) := by
  delta FX96_out_0 BX96_out_0
  refine gd_c n_a0 ?_
  refine gd_fi (fun c0_0 => ?_) (fun c0_0 => ?_)
  · exact gd_tR (ext_dI (ext_r _)) (gX96_out_33  _ ⟨T.1, (tyb_sI (f := 394) rfl T.2)⟩  )
  · refine gd_c n_a0 ?_
    refine gd_fi (fun c1_0 => ?_) (fun c1_0 => ?_)
    · exact gd_tR (ext_dI (ext_r _)) (gX96_out_33  _ ⟨T.1, (tyb_sI (f := 394) rfl T.2)⟩  )
    · refine gd_c n_a0 ?_
      refine gd_fi (fun c2_0 => ?_) (fun c2_0 => ?_)
      · refine gd_c n_a0 ?_
        refine gd_n (by decide) ?_
        have f3 := (tN_412 T.1 n_a0)
        have f4 := (((h.2 c0_0).2 c1_0).1 c2_0).1
        refine gd_c ⟨f3, f4⟩ ?_
        exact gd_tR (ext_dI (ext_r _)) (gX96_out_48 _ _ ⟨T.1, (tyb_sI (f := 394) rfl T.2)⟩  )
      · exact gd_tR (ext_dI (ext_r _)) (gX96_out_33  _ ⟨T.1, (tyb_sI (f := 394) rfl T.2)⟩  )
noncomputable def GX96_out (a0 : Nat) (a1 : Int64) (M : FM) : Int32 × FM := GX96_out_0 a0 a1 M
def HX96_out (a0 : Nat) (a1 : Int64) (M : FM) : Prop := HX96_out_0 a0 a1 M
theorem gX96_out (a0 : Nat) (a1 : Int64) (M : FM) (T : Ty M) (n_a0 : fm_is M 99 99 a0 = true) (h : HX96_out a0 a1 M) : gd (FX96_out a0 a1 M) (GX96_out a0 a1 M) (OkR M) := gX96_out_0 a0 a1 M T n_a0 h
noncomputable def GX92_out_0 (a0 : Nat) (a1 : Int64) (M : FM) : Int32 × FM :=
  let M1 : FM := fm_sI M 296 a0 0 (Int32.ofInt 0)
  let x2 : Nat := (M1.2.2 301 a0 0)
  let r3 : Int32 × FM := GX96_out x2 a1 M1
  (r3.1, r3.2)
def HX92_out_0 (a0 : Nat) (a1 : Int64) (M : FM) : Prop := let M1 : FM := fm_sI M 296 a0 0 (Int32.ofInt 0); let x2 : Nat := (M1.2.2 301 a0 0); (HX96_out x2 a1 M1 ∧ True)
theorem gX92_out_0 (a0 : Nat) (a1 : Int64) (M : FM) (T : Ty M) (n_a0 : fm_is M 92 92 a0 = true) (h : HX92_out_0 a0 a1 M) : gd (FX92_out_0 a0 a1 M) (GX92_out_0 a0 a1 M) (OkR M) := by
  delta FX92_out_0 BX92_out_0
  refine gd_c n_a0 ?_
  refine gd_c n_a0 ?_
  have f0 := (tN_301 T.1 n_a0)
  refine gd_c f0 ?_
  have f2 := (tN_301 T.1 n_a0)
  refine gd_b (gX96_out _ _ _ ⟨T.1, (tyb_sI (f := 296) rfl T.2)⟩ f2 h.1) (fun K1 => ?_)
  exact ⟨rfl, ⟨K1.1.1, K1.1.2⟩, (ext_dI K1.2)⟩
noncomputable def GX92_out (a0 : Nat) (a1 : Int64) (M : FM) : Int32 × FM := GX92_out_0 a0 a1 M
def HX92_out (a0 : Nat) (a1 : Int64) (M : FM) : Prop := HX92_out_0 a0 a1 M
theorem gX92_out (a0 : Nat) (a1 : Int64) (M : FM) (T : Ty M) (n_a0 : fm_is M 92 92 a0 = true) (h : HX92_out a0 a1 M) : gd (FX92_out a0 a1 M) (GX92_out a0 a1 M) (OkR M) := gX92_out_0 a0 a1 M T n_a0 h
noncomputable def GX92_word_40 (s0 : Int64) (M : FM) : Int64 × FM :=
  (s0, M)
theorem gX92_word_40 (s0 : Int64) (M : FM) (T : Ty M) : gd (FX92_word_40 fN s0 M) (GX92_word_40 s0 M) (OkR M) := by
  delta FX92_word_40 BX92_word_40
  exact ⟨rfl, ⟨T.1, T.2⟩, (ext_r _)⟩
noncomputable def GX92_word_16 (a0 : Nat) (a1 : Int64) (s0 : Nat) (s1 : Int32) (M : FM) : Int64 × FM :=
  let M1 : FM := fm_sI M 296 s0 0 s1
  fi ((M1.1 296 a0 0) ≤ 0) (
    let x2 : Nat := (M1.2.2 298 a0 0)
    let r3 : Int64 × FM := GX93_number x2 a1 (Int32.ofInt 8) M1
    GX92_word_40 r3.1 r3.2) (
    GX92_word_40 (Int64.ofInt 0) M1)
def HX92_word_16 (a0 : Nat) (a1 : Int64) (s0 : Nat) (s1 : Int32) (M : FM) : Prop := let M1 : FM := fm_sI M 296 s0 0 s1; (((M1.1 296 a0 0) ≤ 0 → let x2 : Nat := (M1.2.2 298 a0 0); (HX93_number x2 a1 (Int32.ofInt 8) M1 ∧ True)) ∧ (¬ ((M1.1 296 a0 0) ≤ 0) → True))
theorem gX92_word_16 (a0 : Nat) (a1 : Int64) (s0 : Nat) (s1 : Int32) (M : FM) (T : Ty M) (n_s0 : fm_is M 92 92 s0 = true) (n_a0 : fm_is M 92 92 a0 = true) (h : HX92_word_16 a0 a1 s0 s1 M) : gd (FX92_word_16 fN a0 a1 s0 s1 M) (GX92_word_16 a0 a1 s0 s1 M) (OkR M) := by
  delta FX92_word_16 BX92_word_16
  refine gd_c n_s0 ?_
  refine gd_c n_a0 ?_
  refine gd_fi (fun c0_0 => ?_) (fun c0_0 => ?_)
  · refine gd_c n_a0 ?_
    have f1 := (tN_298 T.1 n_a0)
    refine gd_c f1 ?_
    refine gd_b (gX93_number _ _ _ _ (h.1 c0_0).1) (fun K2 => ?_)
    exact gd_tR (ext_dI K2.2) (gX92_word_40 _ _ ⟨K2.1.1, K2.1.2⟩  )
  · exact gd_tR (ext_dI (ext_r _)) (gX92_word_40 _ _ ⟨T.1, (tyb_sI (f := 296) rfl T.2)⟩  )
noncomputable def GX92_word_0 (a0 : Nat) (a1 : Int64) (M : FM) : Int64 × FM :=
  let r1 : Int32 × FM := GX93_areBytes a1 (Int64.ofInt 8) M
  fi (r1.1 = 0) (
    GX92_word_16 a0 a1 a0 (Int32.ofInt 1) r1.2) (
    GX92_word_16 a0 a1 a0 (Int32.ofInt 0) r1.2)
def HX92_word_0 (a0 : Nat) (a1 : Int64) (M : FM) : Prop := let r1 : Int32 × FM := GX93_areBytes a1 (Int64.ofInt 8) M; ((r1.1 = 0 → HX92_word_16 a0 a1 a0 (Int32.ofInt 1) r1.2) ∧ (¬ (r1.1 = 0) → HX92_word_16 a0 a1 a0 (Int32.ofInt 0) r1.2))
theorem gX92_word_0 (a0 : Nat) (a1 : Int64) (M : FM) (T : Ty M) (n_a0 : fm_is M 92 92 a0 = true) (h : HX92_word_0 a0 a1 M) : gd (FX92_word_0 fN a0 a1 M) (GX92_word_0 a0 a1 M) (OkR M) := by
  delta FX92_word_0 BX92_word_0
  refine gd_b (gX93_areBytes _ _ _ ⟨T.1, T.2⟩  ) (fun K0 => ?_)
  refine gd_fi (fun c1_0 => ?_) (fun c1_0 => ?_)
  · have f2 := (ext_is K0.2.1 (Nat.zero_lt_succ _) n_a0)
    have f3 := (ext_is K0.2.1 (Nat.zero_lt_succ _) n_a0)
    exact gd_tR K0.2.1 (gX92_word_16 _ _ _ _ _ ⟨K0.1.1, K0.1.2⟩ f2 f3 (h.1 c1_0))
  · have f4 := (ext_is K0.2.1 (Nat.zero_lt_succ _) n_a0)
    have f5 := (ext_is K0.2.1 (Nat.zero_lt_succ _) n_a0)
    exact gd_tR K0.2.1 (gX92_word_16 _ _ _ _ _ ⟨K0.1.1, K0.1.2⟩ f4 f5 (h.2 c1_0))
noncomputable def GX92_word (a0 : Nat) (a1 : Int64) (M : FM) : Int64 × FM := GX92_word_0 a0 a1 M
def HX92_word (a0 : Nat) (a1 : Int64) (M : FM) : Prop := HX92_word_0 a0 a1 M
theorem gX92_word (a0 : Nat) (a1 : Int64) (M : FM) (T : Ty M) (n_a0 : fm_is M 92 92 a0 = true) (h : HX92_word a0 a1 M) : gd (FX92_word fN a0 a1 M) (GX92_word a0 a1 M) (OkR M) := gX92_word_0 a0 a1 M T n_a0 h
noncomputable def GX92_begins_80 (s0 : Int32) (M : FM) : Int32 × FM :=
  (s0, M)
theorem gX92_begins_80 (s0 : Int32) (M : FM) (T : Ty M) (z_s0 : s0 = 0 ∨ s0 = 1) : gd (FX92_begins_80 s0 M) (GX92_begins_80 s0 M) (OkZ M) := by
  delta FX92_begins_80 BX92_begins_80
  exact gd_z z_s0 ⟨T.1, T.2⟩ (ext_r _) rfl
noncomputable def GX92_begins_79 (M : FM) : Int32 × FM :=
  GX92_begins_80 (Int32.ofInt 0) M
theorem gX92_begins_79 (M : FM) (T : Ty M) : gd (FX92_begins_79 M) (GX92_begins_79 M) (OkZ M) := by
  delta FX92_begins_79 BX92_begins_79
  exact gd_tZ (ext_r _) (gX92_begins_80 _ _ ⟨T.1, T.2⟩ fz_0 )
noncomputable def GX92_begins_0 (a0 : Nat) (M : FM) : Int32 × FM :=
  let x1 : Nat := (M.2.2 308 a0 0)
  fi ((M.1 3 x1 (Int32.ofInt 0).toNatClampNeg) = (Int32.ofInt 127)) (
    let x2 : Nat := (M.2.2 308 a0 0)
    fi ((M.1 3 x2 (Int32.ofInt 1).toNatClampNeg) = (Int32.ofInt 69)) (
      let x3 : Nat := (M.2.2 308 a0 0)
      fi ((M.1 3 x3 (Int32.ofInt 2).toNatClampNeg) = (Int32.ofInt 76)) (
        let x4 : Nat := (M.2.2 308 a0 0)
        fi ((M.1 3 x4 (Int32.ofInt 3).toNatClampNeg) = (Int32.ofInt 70)) (
          let x5 : Nat := (M.2.2 308 a0 0)
          fi ((M.1 3 x5 (Int32.ofInt 4).toNatClampNeg) = (Int32.ofInt 2)) (
            let x6 : Nat := (M.2.2 308 a0 0)
            fi ((M.1 3 x6 (Int32.ofInt 5).toNatClampNeg) = (Int32.ofInt 1)) (
              let x7 : Nat := (M.2.2 308 a0 0)
              fi ((M.1 3 x7 (Int32.ofInt 6).toNatClampNeg) = (Int32.ofInt 1)) (
                GX92_begins_80 (Int32.ofInt 1) M) (
                GX92_begins_79 M)) (
              GX92_begins_79 M)) (
            GX92_begins_79 M)) (
          GX92_begins_79 M)) (
        GX92_begins_79 M)) (
      GX92_begins_79 M)) (
    GX92_begins_79 M)
theorem gX92_begins_0 (a0 : Nat) (M : FM) (T : Ty M) (n_a0 : fm_is M 92 92 a0 = true) : gd (FX92_begins_0 a0 M) (GX92_begins_0 a0 M) (OkZ M) := by
  delta FX92_begins_0 BX92_begins_0
  refine gd_c n_a0 ?_
  have f19 := (tN_308 T.1 n_a0)
  have f20 := (fm_inl (i := (Int32.ofInt 0)) (tL_308 T.1 n_a0) (by decide))
  refine gd_c ⟨f19, f20⟩ ?_
  refine gd_fi (fun c0_0 => ?_) (fun c0_0 => ?_)
  · refine gd_c n_a0 ?_
    have f17 := (tN_308 T.1 n_a0)
    have f18 := (fm_inl (i := (Int32.ofInt 1)) (tL_308 T.1 n_a0) (by decide))
    refine gd_c ⟨f17, f18⟩ ?_
    refine gd_fi (fun c1_0 => ?_) (fun c1_0 => ?_)
    · refine gd_c n_a0 ?_
      have f15 := (tN_308 T.1 n_a0)
      have f16 := (fm_inl (i := (Int32.ofInt 2)) (tL_308 T.1 n_a0) (by decide))
      refine gd_c ⟨f15, f16⟩ ?_
      refine gd_fi (fun c2_0 => ?_) (fun c2_0 => ?_)
      · refine gd_c n_a0 ?_
        have f13 := (tN_308 T.1 n_a0)
        have f14 := (fm_inl (i := (Int32.ofInt 3)) (tL_308 T.1 n_a0) (by decide))
        refine gd_c ⟨f13, f14⟩ ?_
        refine gd_fi (fun c3_0 => ?_) (fun c3_0 => ?_)
        · refine gd_c n_a0 ?_
          have f11 := (tN_308 T.1 n_a0)
          have f12 := (fm_inl (i := (Int32.ofInt 4)) (tL_308 T.1 n_a0) (by decide))
          refine gd_c ⟨f11, f12⟩ ?_
          refine gd_fi (fun c4_0 => ?_) (fun c4_0 => ?_)
          · refine gd_c n_a0 ?_
            have f9 := (tN_308 T.1 n_a0)
            have f10 := (fm_inl (i := (Int32.ofInt 5)) (tL_308 T.1 n_a0) (by decide))
            refine gd_c ⟨f9, f10⟩ ?_
            refine gd_fi (fun c5_0 => ?_) (fun c5_0 => ?_)
            · refine gd_c n_a0 ?_
              have f7 := (tN_308 T.1 n_a0)
              have f8 := (fm_inl (i := (Int32.ofInt 6)) (tL_308 T.1 n_a0) (by decide))
              refine gd_c ⟨f7, f8⟩ ?_
              refine gd_fi (fun c6_0 => ?_) (fun c6_0 => ?_)
              · exact gd_tZ (ext_r _) (gX92_begins_80 _ _ ⟨T.1, T.2⟩ fz_1 )
              · exact gd_tZ (ext_r _) (gX92_begins_79  _ ⟨T.1, T.2⟩  )
            · exact gd_tZ (ext_r _) (gX92_begins_79  _ ⟨T.1, T.2⟩  )
          · exact gd_tZ (ext_r _) (gX92_begins_79  _ ⟨T.1, T.2⟩  )
        · exact gd_tZ (ext_r _) (gX92_begins_79  _ ⟨T.1, T.2⟩  )
      · exact gd_tZ (ext_r _) (gX92_begins_79  _ ⟨T.1, T.2⟩  )
    · exact gd_tZ (ext_r _) (gX92_begins_79  _ ⟨T.1, T.2⟩  )
  · exact gd_tZ (ext_r _) (gX92_begins_79  _ ⟨T.1, T.2⟩  )
noncomputable def GX92_begins (a0 : Nat) (M : FM) : Int32 × FM := GX92_begins_0 a0 M
theorem gX92_begins (a0 : Nat) (M : FM) (T : Ty M) (n_a0 : fm_is M 92 92 a0 = true) : gd (FX92_begins a0 M) (GX92_begins a0 M) (OkZ M) := gX92_begins_0 a0 M T n_a0 
def kX92_number (k7 : Nat → Int32 → Int64 → Int32 → FM → Option (Int64 × FM)) : (Nat × Int32 × Int64 × Int32 × FM) ⊕ (Int64 × FM) → Option (Int64 × FM)
  | .inl (v0, v1, v2, v3, M') => k7 v0 v1 v2 v3 M'
  | .inr (r) => some r
def pX92_number (M : FM) : (Nat × Int32 × Int64 × Int32 × FM) ⊕ (Int64 × FM) → Prop
  | .inl (_, _, _, _, M') => OkV M M'
  | .inr (r) => OkR M r
theorem pX92_number_t {M M1 : FM} (e : Ext M M1) : ∀ y, pX92_number M1 y → pX92_number M y
  | .inl (_, _, _, _, _), h => ⟨h.1, ext_tr e h.2⟩
  | .inr (r), h => ⟨h.1, ext_tr e h.2⟩
noncomputable def GX92_number_0 (a0 : Nat) (a1 : Int32) (a2 : Int32) (M : FM) : (Nat × Int32 × Int64 × Int32 × FM) ⊕ (Int64 × FM) :=
  let x1 : Int32 := (a2 - (Int32.ofInt 1))
  (.inl (a0, a1, (Int64.ofInt 0), x1, M))
theorem gX92_number_0 (k7 : Nat → Int32 → Int64 → Int32 → FM → Option (Int64 × FM)) (a0 : Nat) (a1 : Int32) (a2 : Int32) (M : FM) (T : Ty M) : gs (FX92_number_0 fN k7 a0 a1 a2 M) (GX92_number_0 a0 a1 a2 M) (kX92_number k7) (pX92_number M) := by
  delta FX92_number_0 BX92_number_0
  exact And.intro rfl (And.intro (And.intro T.1 T.2) ((ext_r _)))
noncomputable def GX92_number_7 (a0 : Nat) (a1 : Int32) (a3 : Int64) (a5 : Int32) (M : FM) : (Nat × Int32 × Int64 × Int32 × FM) ⊕ (Int64 × FM) :=
  fi (a5 < 0) (
    (.inr (a3, M))) (
    let x1 : Int32 := (a1 + a5)
    let x2 : Nat := (M.2.2 308 a0 0)
    let x3 : Int64 := ((a3 <<< ((Int32.ofInt 8).toInt64 &&& 63)) ||| (M.1 3 x2 x1.toNatClampNeg).toInt64)
    let x4 : Int32 := a5 + (Int32.ofInt (-1))
    (.inl (a0, a1, x3, x4, M)))
def HX92_number_7 (a0 : Nat) (a1 : Int32) (a3 : Int64) (a5 : Int32) (M : FM) : Prop := ((a5 < 0 → True) ∧ (¬ (a5 < 0) → let x1 : Int32 := (a1 + a5); let x2 : Nat := (M.2.2 308 a0 0); (fm_in M x2 x1 = true ∧ True)))
theorem gX92_number_7 (k7 : Nat → Int32 → Int64 → Int32 → FM → Option (Int64 × FM)) (a0 : Nat) (a1 : Int32) (a3 : Int64) (a5 : Int32) (M : FM) (T : Ty M) (n_a0 : fm_is M 92 92 a0 = true) (h : HX92_number_7 a0 a1 a3 a5 M) : gs (FX92_number_7 fN k7 a0 a1 a3 a5 M) (GX92_number_7 a0 a1 a3 a5 M) (kX92_number k7) (pX92_number M) := by
  delta FX92_number_7 BX92_number_7
  refine gs_fi (fun c0_0 => ?_) (fun c0_0 => ?_)
  · exact And.intro rfl (And.intro (And.intro T.1 T.2) ((ext_r _)))
  · refine gs_c n_a0 ?_
    have f1 := (tN_308 T.1 n_a0)
    refine gs_c ⟨f1, (h.2 c0_0).1⟩ ?_
    exact And.intro rfl (And.intro (And.intro T.1 T.2) ((ext_r _)))
noncomputable def GX92_number (a0 : Nat) (a1 : Int32) (a2 : Int32) (M : FM) : Int64 × FM := (FX92_number fN a0 a1 a2 M).getD (0, M)
def HX92_number (a0 : Nat) (a1 : Int32) (a2 : Int32) (M : FM) : Prop := ∃ r, FX92_number fN a0 a1 a2 M = some r ∧ OkR M r
theorem gX92_number (a0 : Nat) (a1 : Int32) (a2 : Int32) (M : FM) (h : HX92_number a0 a1 a2 M) : gd (FX92_number fN a0 a1 a2 M) (GX92_number a0 a1 a2 M) (OkR M) := gd_op h
noncomputable def GX92_isOnTape_39 (s0 : Int32) (M : FM) : Int32 × FM :=
  (s0, M)
theorem gX92_isOnTape_39 (s0 : Int32) (M : FM) (T : Ty M) (z_s0 : s0 = 0 ∨ s0 = 1) : gd (FX92_isOnTape_39 s0 M) (GX92_isOnTape_39 s0 M) (OkZ M) := by
  delta FX92_isOnTape_39 BX92_isOnTape_39
  exact gd_z z_s0 ⟨T.1, T.2⟩ (ext_r _) rfl
noncomputable def GX92_isOnTape_38 (M : FM) : Int32 × FM :=
  GX92_isOnTape_39 (Int32.ofInt 0) M
theorem gX92_isOnTape_38 (M : FM) (T : Ty M) : gd (FX92_isOnTape_38 M) (GX92_isOnTape_38 M) (OkZ M) := by
  delta FX92_isOnTape_38 BX92_isOnTape_38
  exact gd_tZ (ext_r _) (gX92_isOnTape_39 _ _ ⟨T.1, T.2⟩ fz_0 )
noncomputable def GX92_isOnTape_0 (a0 : Nat) (a1 : Int64) (a3 : Int64) (M : FM) : Int32 × FM :=
  fi ((lg_cmp a1 (Int64.ofInt 0)) < 0) (
    GX92_isOnTape_38 M) (
    fi ((lg_cmp a3 (Int64.ofInt 0)) < 0) (
      GX92_isOnTape_38 M) (
      fi (0 < (lg_cmp a1 ((M.1 309 a0 0).toInt64))) (
        GX92_isOnTape_38 M) (
        fi (0 < (lg_cmp a3 ((M.1 309 a0 0).toInt64 - a1))) (
          GX92_isOnTape_38 M) (
          GX92_isOnTape_39 (Int32.ofInt 1) M))))
theorem gX92_isOnTape_0 (a0 : Nat) (a1 : Int64) (a3 : Int64) (M : FM) (T : Ty M) (n_a0 : fm_is M 92 92 a0 = true) : gd (FX92_isOnTape_0 a0 a1 a3 M) (GX92_isOnTape_0 a0 a1 a3 M) (OkZ M) := by
  delta FX92_isOnTape_0 BX92_isOnTape_0
  refine gd_fi (fun c0_0 => ?_) (fun c0_0 => ?_)
  · exact gd_tZ (ext_r _) (gX92_isOnTape_38  _ ⟨T.1, T.2⟩  )
  · refine gd_fi (fun c1_0 => ?_) (fun c1_0 => ?_)
    · exact gd_tZ (ext_r _) (gX92_isOnTape_38  _ ⟨T.1, T.2⟩  )
    · refine gd_c n_a0 ?_
      refine gd_fi (fun c2_0 => ?_) (fun c2_0 => ?_)
      · exact gd_tZ (ext_r _) (gX92_isOnTape_38  _ ⟨T.1, T.2⟩  )
      · refine gd_c n_a0 ?_
        refine gd_fi (fun c3_0 => ?_) (fun c3_0 => ?_)
        · exact gd_tZ (ext_r _) (gX92_isOnTape_38  _ ⟨T.1, T.2⟩  )
        · exact gd_tZ (ext_r _) (gX92_isOnTape_39 _ _ ⟨T.1, T.2⟩ fz_1 )
noncomputable def GX92_isOnTape (a0 : Nat) (a1 : Int64) (a3 : Int64) (M : FM) : Int32 × FM := GX92_isOnTape_0 a0 a1 a3 M
theorem gX92_isOnTape (a0 : Nat) (a1 : Int64) (a3 : Int64) (M : FM) (T : Ty M) (n_a0 : fm_is M 92 92 a0 = true) : gd (FX92_isOnTape a0 a1 a3 M) (GX92_isOnTape a0 a1 a3 M) (OkZ M) := gX92_isOnTape_0 a0 a1 a3 M T n_a0 
noncomputable def GX92_isAbove_50 (s0 : Int32) (M : FM) : Int32 × FM :=
  (s0, M)
theorem gX92_isAbove_50 (s0 : Int32) (M : FM) (T : Ty M) (z_s0 : s0 = 0 ∨ s0 = 1) : gd (FX92_isAbove_50 s0 M) (GX92_isAbove_50 s0 M) (OkZ M) := by
  delta FX92_isAbove_50 BX92_isAbove_50
  exact gd_z z_s0 ⟨T.1, T.2⟩ (ext_r _) rfl
noncomputable def GX92_isAbove_22 (a0 : Int64) (a2 : Int64) (s0 : Int32) (s1 : Int32) (M : FM) : Int32 × FM :=
  fi (s0 = s1) (
    fi ((lg_cmp a0 a2) ≤ 0) (
      GX92_isAbove_50 (Int32.ofInt 0) M) (
      GX92_isAbove_50 (Int32.ofInt 1) M)) (
    fi (0 ≤ (lg_cmp a0 (Int64.ofInt 0))) (
      GX92_isAbove_50 (Int32.ofInt 0) M) (
      GX92_isAbove_50 (Int32.ofInt 1) M))
theorem gX92_isAbove_22 (a0 : Int64) (a2 : Int64) (s0 : Int32) (s1 : Int32) (M : FM) (T : Ty M) : gd (FX92_isAbove_22 a0 a2 s0 s1 M) (GX92_isAbove_22 a0 a2 s0 s1 M) (OkZ M) := by
  delta FX92_isAbove_22 BX92_isAbove_22
  refine gd_fi (fun c0_0 => ?_) (fun c0_0 => ?_)
  · refine gd_fi (fun c1_0 => ?_) (fun c1_0 => ?_)
    · exact gd_tZ (ext_r _) (gX92_isAbove_50 _ _ ⟨T.1, T.2⟩ fz_0 )
    · exact gd_tZ (ext_r _) (gX92_isAbove_50 _ _ ⟨T.1, T.2⟩ fz_1 )
  · refine gd_fi (fun c2_0 => ?_) (fun c2_0 => ?_)
    · exact gd_tZ (ext_r _) (gX92_isAbove_50 _ _ ⟨T.1, T.2⟩ fz_0 )
    · exact gd_tZ (ext_r _) (gX92_isAbove_50 _ _ ⟨T.1, T.2⟩ fz_1 )
noncomputable def GX92_isAbove_11 (a0 : Int64) (a2 : Int64) (s0 : Int32) (M : FM) : Int32 × FM :=
  fi (0 ≤ (lg_cmp a2 (Int64.ofInt 0))) (
    GX92_isAbove_22 a0 a2 s0 (Int32.ofInt 0) M) (
    GX92_isAbove_22 a0 a2 s0 (Int32.ofInt 1) M)
theorem gX92_isAbove_11 (a0 : Int64) (a2 : Int64) (s0 : Int32) (M : FM) (T : Ty M) : gd (FX92_isAbove_11 a0 a2 s0 M) (GX92_isAbove_11 a0 a2 s0 M) (OkZ M) := by
  delta FX92_isAbove_11 BX92_isAbove_11
  refine gd_fi (fun c0_0 => ?_) (fun c0_0 => ?_)
  · exact gd_tZ (ext_r _) (gX92_isAbove_22 _ _ _ _ _ ⟨T.1, T.2⟩  )
  · exact gd_tZ (ext_r _) (gX92_isAbove_22 _ _ _ _ _ ⟨T.1, T.2⟩  )
noncomputable def GX92_isAbove_0 (a0 : Int64) (a2 : Int64) (M : FM) : Int32 × FM :=
  fi (0 ≤ (lg_cmp a0 (Int64.ofInt 0))) (
    GX92_isAbove_11 a0 a2 (Int32.ofInt 0) M) (
    GX92_isAbove_11 a0 a2 (Int32.ofInt 1) M)
theorem gX92_isAbove_0 (a0 : Int64) (a2 : Int64) (M : FM) (T : Ty M) : gd (FX92_isAbove_0 a0 a2 M) (GX92_isAbove_0 a0 a2 M) (OkZ M) := by
  delta FX92_isAbove_0 BX92_isAbove_0
  refine gd_fi (fun c0_0 => ?_) (fun c0_0 => ?_)
  · exact gd_tZ (ext_r _) (gX92_isAbove_11 _ _ _ _ ⟨T.1, T.2⟩  )
  · exact gd_tZ (ext_r _) (gX92_isAbove_11 _ _ _ _ ⟨T.1, T.2⟩  )
noncomputable def GX92_isAbove (a0 : Int64) (a2 : Int64) (M : FM) : Int32 × FM := GX92_isAbove_0 a0 a2 M
theorem gX92_isAbove (a0 : Int64) (a2 : Int64) (M : FM) (T : Ty M) : gd (FX92_isAbove a0 a2 M) (GX92_isAbove a0 a2 M) (OkZ M) := gX92_isAbove_0 a0 a2 M T 
def kX92_partFault (k111 : Nat → Int32 → Int64 → Int64 → Int32 → Int32 → FM → Option (Int32 × FM)) : (Nat × Int32 × Int64 × Int64 × Int32 × Int32 × FM) ⊕ (Int32 × FM) → Option (Int32 × FM)
  | .inl (v0, v1, v2, v3, v4, v5, M') => k111 v0 v1 v2 v3 v4 v5 M'
  | .inr (r) => some r
def pX92_partFault (M : FM) : (Nat × Int32 × Int64 × Int64 × Int32 × Int32 × FM) ⊕ (Int32 × FM) → Prop
  | .inl (_, _, _, _, _, _, M') => OkV M M'
  | .inr (r) => OkR M r
theorem pX92_partFault_t {M M1 : FM} (e : Ext M M1) : ∀ y, pX92_partFault M1 y → pX92_partFault M y
  | .inl (_, _, _, _, _, _, _), h => ⟨h.1, ext_tr e h.2⟩
  | .inr (r), h => ⟨h.1, ext_tr e h.2⟩
noncomputable def GX92_partFault_234 (s0 : Int32) (M : FM) : (Nat × Int32 × Int64 × Int64 × Int32 × Int32 × FM) ⊕ (Int32 × FM) :=
  (.inr (s0, M))
theorem gX92_partFault_234 (k111 : Nat → Int32 → Int64 → Int64 → Int32 → Int32 → FM → Option (Int32 × FM)) (s0 : Int32) (M : FM) (T : Ty M) : gs (FX92_partFault_234 fN k111 s0 M) (GX92_partFault_234 s0 M) (kX92_partFault k111) (pX92_partFault M) := by
  delta FX92_partFault_234 BX92_partFault_234
  exact And.intro rfl (And.intro (And.intro T.1 T.2) ((ext_r _)))
noncomputable def GX92_partFault_211 (a0 : Nat) (a2 : Int32) (a3 : Int64) (a7 : Int64) (a10 : Int32) (s0 : Int32) (M : FM) : (Nat × Int32 × Int64 × Int64 × Int32 × Int32 × FM) ⊕ (Int32 × FM) :=
  let x1 : Int32 := (a10 + (Int32.ofInt 56))
  (.inl (a0, a2, a3, a7, s0, x1, M))
theorem gX92_partFault_211 (k111 : Nat → Int32 → Int64 → Int64 → Int32 → Int32 → FM → Option (Int32 × FM)) (a0 : Nat) (a2 : Int32) (a3 : Int64) (a7 : Int64) (a10 : Int32) (s0 : Int32) (M : FM) (T : Ty M) : gs (FX92_partFault_211 fN k111 a0 a2 a3 a7 a10 s0 M) (GX92_partFault_211 a0 a2 a3 a7 a10 s0 M) (kX92_partFault k111) (pX92_partFault M) := by
  delta FX92_partFault_211 BX92_partFault_211
  exact And.intro rfl (And.intro (And.intro T.1 T.2) ((ext_r _)))
noncomputable def GX92_partFault_210 (a0 : Nat) (a2 : Int32) (a3 : Int64) (a7 : Int64) (a10 : Int32) (M : FM) : (Nat × Int32 × Int64 × Int64 × Int32 × Int32 × FM) ⊕ (Int32 × FM) :=
  GX92_partFault_211 a0 a2 a3 a7 a10 (Int32.ofInt 0) M
theorem gX92_partFault_210 (k111 : Nat → Int32 → Int64 → Int64 → Int32 → Int32 → FM → Option (Int32 × FM)) (a0 : Nat) (a2 : Int32) (a3 : Int64) (a7 : Int64) (a10 : Int32) (M : FM) (T : Ty M) : gs (FX92_partFault_210 fN k111 a0 a2 a3 a7 a10 M) (GX92_partFault_210 a0 a2 a3 a7 a10 M) (kX92_partFault k111) (pX92_partFault M) := by
  delta FX92_partFault_210 BX92_partFault_210
  exact gs_t (pX92_partFault_t (ext_r _)) (gX92_partFault_211 k111 _ _ _ _ _ _ _ ⟨T.1, T.2⟩  )
noncomputable def GX92_partFault_206 (a0 : Nat) (a2 : Int32) (a3 : Int64) (a7 : Int64) (a10 : Int32) (M : FM) : (Nat × Int32 × Int64 × Int64 × Int32 × Int32 × FM) ⊕ (Int32 × FM) :=
  GX92_partFault_211 a0 a2 a3 a7 a10 (Int32.ofInt 1) M
theorem gX92_partFault_206 (k111 : Nat → Int32 → Int64 → Int64 → Int32 → Int32 → FM → Option (Int32 × FM)) (a0 : Nat) (a2 : Int32) (a3 : Int64) (a7 : Int64) (a10 : Int32) (M : FM) (T : Ty M) : gs (FX92_partFault_206 fN k111 a0 a2 a3 a7 a10 M) (GX92_partFault_206 a0 a2 a3 a7 a10 M) (kX92_partFault k111) (pX92_partFault M) := by
  delta FX92_partFault_206 BX92_partFault_206
  exact gs_t (pX92_partFault_t (ext_r _)) (gX92_partFault_211 k111 _ _ _ _ _ _ _ ⟨T.1, T.2⟩  )
noncomputable def GX92_partFault_174 (a0 : Nat) (a2 : Int32) (a3 : Int64) (a7 : Int64) (a9 : Int32) (a10 : Int32) (a11 : Int64) (a13 : Int64) (s0 : Int32) (M : FM) : (Nat × Int32 × Int64 × Int64 × Int32 × Int32 × FM) ⊕ (Int32 × FM) :=
  fi (a9 = 0) (
    GX92_partFault_210 a0 a2 a3 a7 a10 M) (
    fi (s0 = 0) (
      GX92_partFault_206 a0 a2 a3 a7 a10 M) (
      fi (0 ≤ (lg_cmp a3 (a11 + a13))) (
        GX92_partFault_206 a0 a2 a3 a7 a10 M) (
        fi ((lg_cmp a11 (a3 + a7)) < 0) (
          GX92_partFault_210 a0 a2 a3 a7 a10 M) (
          GX92_partFault_206 a0 a2 a3 a7 a10 M))))
theorem gX92_partFault_174 (k111 : Nat → Int32 → Int64 → Int64 → Int32 → Int32 → FM → Option (Int32 × FM)) (a0 : Nat) (a2 : Int32) (a3 : Int64) (a7 : Int64) (a9 : Int32) (a10 : Int32) (a11 : Int64) (a13 : Int64) (s0 : Int32) (M : FM) (T : Ty M) : gs (FX92_partFault_174 fN k111 a0 a2 a3 a7 a9 a10 a11 a13 s0 M) (GX92_partFault_174 a0 a2 a3 a7 a9 a10 a11 a13 s0 M) (kX92_partFault k111) (pX92_partFault M) := by
  delta FX92_partFault_174 BX92_partFault_174
  refine gs_fi (fun c0_0 => ?_) (fun c0_0 => ?_)
  · exact gs_t (pX92_partFault_t (ext_r _)) (gX92_partFault_210 k111 _ _ _ _ _ _ ⟨T.1, T.2⟩  )
  · refine gs_fi (fun c1_0 => ?_) (fun c1_0 => ?_)
    · exact gs_t (pX92_partFault_t (ext_r _)) (gX92_partFault_206 k111 _ _ _ _ _ _ ⟨T.1, T.2⟩  )
    · refine gs_fi (fun c2_0 => ?_) (fun c2_0 => ?_)
      · exact gs_t (pX92_partFault_t (ext_r _)) (gX92_partFault_206 k111 _ _ _ _ _ _ ⟨T.1, T.2⟩  )
      · refine gs_fi (fun c3_0 => ?_) (fun c3_0 => ?_)
        · exact gs_t (pX92_partFault_t (ext_r _)) (gX92_partFault_210 k111 _ _ _ _ _ _ ⟨T.1, T.2⟩  )
        · exact gs_t (pX92_partFault_t (ext_r _)) (gX92_partFault_206 k111 _ _ _ _ _ _ ⟨T.1, T.2⟩  )
noncomputable def GX92_partFault_173 (a0 : Nat) (a2 : Int32) (a3 : Int64) (a7 : Int64) (a9 : Int32) (a10 : Int32) (a11 : Int64) (a13 : Int64) (M : FM) : (Nat × Int32 × Int64 × Int64 × Int32 × Int32 × FM) ⊕ (Int32 × FM) :=
  GX92_partFault_174 a0 a2 a3 a7 a9 a10 a11 a13 (Int32.ofInt 0) M
theorem gX92_partFault_173 (k111 : Nat → Int32 → Int64 → Int64 → Int32 → Int32 → FM → Option (Int32 × FM)) (a0 : Nat) (a2 : Int32) (a3 : Int64) (a7 : Int64) (a9 : Int32) (a10 : Int32) (a11 : Int64) (a13 : Int64) (M : FM) (T : Ty M) : gs (FX92_partFault_173 fN k111 a0 a2 a3 a7 a9 a10 a11 a13 M) (GX92_partFault_173 a0 a2 a3 a7 a9 a10 a11 a13 M) (kX92_partFault k111) (pX92_partFault M) := by
  delta FX92_partFault_173 BX92_partFault_173
  exact gs_t (pX92_partFault_t (ext_r _)) (gX92_partFault_174 k111 _ _ _ _ _ _ _ _ _ _ ⟨T.1, T.2⟩  )
noncomputable def GX92_partFault_105 (a0 : Nat) (a1 : Int32) (a2 : Int32) (a3 : Int64) (a7 : Int64) (M : FM) : (Nat × Int32 × Int64 × Int64 × Int32 × Int32 × FM) ⊕ (Int32 × FM) :=
  (.inl (a0, a2, a3, a7, (Int32.ofInt 1), a1, M))
theorem gX92_partFault_105 (k111 : Nat → Int32 → Int64 → Int64 → Int32 → Int32 → FM → Option (Int32 × FM)) (a0 : Nat) (a1 : Int32) (a2 : Int32) (a3 : Int64) (a7 : Int64) (M : FM) (T : Ty M) : gs (FX92_partFault_105 fN k111 a0 a1 a2 a3 a7 M) (GX92_partFault_105 a0 a1 a2 a3 a7 M) (kX92_partFault k111) (pX92_partFault M) := by
  delta FX92_partFault_105 BX92_partFault_105
  exact And.intro rfl (And.intro (And.intro T.1 T.2) ((ext_r _)))
noncomputable def GX92_partFault_102 (M : FM) : (Nat × Int32 × Int64 × Int64 × Int32 × Int32 × FM) ⊕ (Int32 × FM) :=
  (.inr ((Int32.ofInt 6), M))
theorem gX92_partFault_102 (k111 : Nat → Int32 → Int64 → Int64 → Int32 → Int32 → FM → Option (Int32 × FM)) (M : FM) (T : Ty M) : gs (FX92_partFault_102 fN k111 M) (GX92_partFault_102 M) (kX92_partFault k111) (pX92_partFault M) := by
  delta FX92_partFault_102 BX92_partFault_102
  exact And.intro rfl (And.intro (And.intro T.1 T.2) ((ext_r _)))
noncomputable def GX92_partFault_77 (M : FM) : (Nat × Int32 × Int64 × Int64 × Int32 × Int32 × FM) ⊕ (Int32 × FM) :=
  (.inr ((Int32.ofInt 5), M))
theorem gX92_partFault_77 (k111 : Nat → Int32 → Int64 → Int64 → Int32 → Int32 → FM → Option (Int32 × FM)) (M : FM) (T : Ty M) : gs (FX92_partFault_77 fN k111 M) (GX92_partFault_77 M) (kX92_partFault k111) (pX92_partFault M) := by
  delta FX92_partFault_77 BX92_partFault_77
  exact And.intro rfl (And.intro (And.intro T.1 T.2) ((ext_r _)))
noncomputable def GX92_partFault_0 (a0 : Nat) (a1 : Int32) (a2 : Int32) (M : FM) : (Nat × Int32 × Int64 × Int64 × Int32 × Int32 × FM) ⊕ (Int32 × FM) :=
  let r1 : Int64 × FM := GX92_number a0 a2 (Int32.ofInt 4) M
  fi ((lg_cmp r1.1 (Int64.ofInt 1)) = 0) (
    let r2 : Int64 × FM := GX92_number a0 (a2 + (Int32.ofInt 24)) (Int32.ofInt 8) r1.2
    let r3 : Int64 × FM := GX92_number a0 (a2 + (Int32.ofInt 32)) (Int32.ofInt 8) r2.2
    let r4 : Int64 × FM := GX92_number a0 (a2 + (Int32.ofInt 40)) (Int32.ofInt 8) r3.2
    let r5 : Int64 × FM := GX92_number a0 (a2 + (Int32.ofInt 8)) (Int32.ofInt 8) r4.2
    let r6 : Int32 × FM := GX92_isOnTape a0 r5.1 r3.1 r5.2
    fi (r6.1 = 0) (
      GX92_partFault_77 r6.2) (
      let r7 : Int32 × FM := GX92_isAbove r3.1 r4.1 r6.2
      fi (r7.1 = 0) (
        fi ((lg_cmp r4.1 (Int64.ofInt 0)) = 0) (
          GX92_partFault_105 a0 a1 a2 r2.1 r4.1 r7.2) (
          fi ((lg_cmp r4.1 (Int64.ofInt 0)) < 0) (
            GX92_partFault_102 r7.2) (
            let r8 : Int32 × FM := GX93_areBytes r2.1 r4.1 r7.2
            fi (r8.1 = 0) (
              GX92_partFault_102 r8.2) (
              GX92_partFault_105 a0 a1 a2 r2.1 r4.1 r8.2)))) (
        GX92_partFault_77 r7.2))) (
    (.inr ((Int32.ofInt 0), r1.2)))
def HX92_partFault_0 (a0 : Nat) (a1 : Int32) (a2 : Int32) (M : FM) : Prop := (HX92_number a0 a2 (Int32.ofInt 4) M ∧ let r1 : Int64 × FM := GX92_number a0 a2 (Int32.ofInt 4) M; (((lg_cmp r1.1 (Int64.ofInt 1)) = 0 → (HX92_number a0 (a2 + (Int32.ofInt 24)) (Int32.ofInt 8) r1.2 ∧ let r2 : Int64 × FM := GX92_number a0 (a2 + (Int32.ofInt 24)) (Int32.ofInt 8) r1.2; (HX92_number a0 (a2 + (Int32.ofInt 32)) (Int32.ofInt 8) r2.2 ∧ let r3 : Int64 × FM := GX92_number a0 (a2 + (Int32.ofInt 32)) (Int32.ofInt 8) r2.2; (HX92_number a0 (a2 + (Int32.ofInt 40)) (Int32.ofInt 8) r3.2 ∧ let r4 : Int64 × FM := GX92_number a0 (a2 + (Int32.ofInt 40)) (Int32.ofInt 8) r3.2; (HX92_number a0 (a2 + (Int32.ofInt 8)) (Int32.ofInt 8) r4.2 ∧ True))))) ∧ (¬ ((lg_cmp r1.1 (Int64.ofInt 1)) = 0) → True)))
theorem gX92_partFault_0 (k111 : Nat → Int32 → Int64 → Int64 → Int32 → Int32 → FM → Option (Int32 × FM)) (a0 : Nat) (a1 : Int32) (a2 : Int32) (M : FM) (T : Ty M) (n_a0 : fm_is M 92 92 a0 = true) (h : HX92_partFault_0 a0 a1 a2 M) : gs (FX92_partFault_0 fN k111 a0 a1 a2 M) (GX92_partFault_0 a0 a1 a2 M) (kX92_partFault k111) (pX92_partFault M) := by
  delta FX92_partFault_0 BX92_partFault_0
  refine gs_c n_a0 ?_
  refine gs_b (gX92_number _ _ _ _ h.1) (fun K0 => ?_)
  refine gs_fi (fun c1_0 => ?_) (fun c1_0 => ?_)
  · have f2 := (ext_is K0.2 (Nat.zero_lt_succ _) n_a0)
    refine gs_c f2 ?_
    refine gs_b (gX92_number _ _ _ _ (h.2.1 c1_0).1) (fun K3 => ?_)
    have f4 := (ext_is K3.2 (Nat.zero_lt_succ _) (ext_is K0.2 (Nat.zero_lt_succ _) n_a0))
    refine gs_c f4 ?_
    refine gs_b (gX92_number _ _ _ _ (h.2.1 c1_0).2.1) (fun K5 => ?_)
    have f6 := (ext_is K5.2 (Nat.zero_lt_succ _) (ext_is K3.2 (Nat.zero_lt_succ _) (ext_is K0.2 (Nat.zero_lt_succ _) n_a0)))
    refine gs_c f6 ?_
    refine gs_b (gX92_number _ _ _ _ (h.2.1 c1_0).2.2.1) (fun K7 => ?_)
    have f8 := (ext_is K7.2 (Nat.zero_lt_succ _) (ext_is K5.2 (Nat.zero_lt_succ _) (ext_is K3.2 (Nat.zero_lt_succ _) (ext_is K0.2 (Nat.zero_lt_succ _) n_a0))))
    refine gs_c f8 ?_
    refine gs_b (gX92_number _ _ _ _ (h.2.1 c1_0).2.2.2.1) (fun K9 => ?_)
    have f10 := (ext_is K9.2 (Nat.zero_lt_succ _) (ext_is K7.2 (Nat.zero_lt_succ _) (ext_is K5.2 (Nat.zero_lt_succ _) (ext_is K3.2 (Nat.zero_lt_succ _) (ext_is K0.2 (Nat.zero_lt_succ _) n_a0)))))
    refine gs_c f10 ?_
    have f19 := (ext_is K9.2 (Nat.zero_lt_succ _) (ext_is K7.2 (Nat.zero_lt_succ _) (ext_is K5.2 (Nat.zero_lt_succ _) (ext_is K3.2 (Nat.zero_lt_succ _) (ext_is K0.2 (Nat.zero_lt_succ _) n_a0)))))
    refine gs_b (gX92_isOnTape _ _ _ _ ⟨K9.1.1, K9.1.2⟩ f19 ) (fun K11 => ?_)
    refine gs_fi (fun c12_0 => ?_) (fun c12_0 => ?_)
    · exact gs_t (pX92_partFault_t (ext_tr K0.2 (ext_tr K3.2 (ext_tr K5.2 (ext_tr K7.2 (ext_tr K9.2 K11.2.1)))))) (gX92_partFault_77 k111  _ ⟨K11.1.1, K11.1.2⟩  )
    · refine gs_b (gX92_isAbove _ _ _ ⟨K11.1.1, K11.1.2⟩  ) (fun K13 => ?_)
      refine gs_fi (fun c14_0 => ?_) (fun c14_0 => ?_)
      · refine gs_fi (fun c15_0 => ?_) (fun c15_0 => ?_)
        · exact gs_t (pX92_partFault_t (ext_tr K0.2 (ext_tr K3.2 (ext_tr K5.2 (ext_tr K7.2 (ext_tr K9.2 (ext_tr K11.2.1 K13.2.1))))))) (gX92_partFault_105 k111 _ _ _ _ _ _ ⟨K13.1.1, K13.1.2⟩  )
        · refine gs_fi (fun c16_0 => ?_) (fun c16_0 => ?_)
          · exact gs_t (pX92_partFault_t (ext_tr K0.2 (ext_tr K3.2 (ext_tr K5.2 (ext_tr K7.2 (ext_tr K9.2 (ext_tr K11.2.1 K13.2.1))))))) (gX92_partFault_102 k111  _ ⟨K13.1.1, K13.1.2⟩  )
          · refine gs_b (gX93_areBytes _ _ _ ⟨K13.1.1, K13.1.2⟩  ) (fun K17 => ?_)
            refine gs_fi (fun c18_0 => ?_) (fun c18_0 => ?_)
            · exact gs_t (pX92_partFault_t (ext_tr K0.2 (ext_tr K3.2 (ext_tr K5.2 (ext_tr K7.2 (ext_tr K9.2 (ext_tr K11.2.1 (ext_tr K13.2.1 K17.2.1)))))))) (gX92_partFault_102 k111  _ ⟨K17.1.1, K17.1.2⟩  )
            · exact gs_t (pX92_partFault_t (ext_tr K0.2 (ext_tr K3.2 (ext_tr K5.2 (ext_tr K7.2 (ext_tr K9.2 (ext_tr K11.2.1 (ext_tr K13.2.1 K17.2.1)))))))) (gX92_partFault_105 k111 _ _ _ _ _ _ ⟨K17.1.1, K17.1.2⟩  )
      · exact gs_t (pX92_partFault_t (ext_tr K0.2 (ext_tr K3.2 (ext_tr K5.2 (ext_tr K7.2 (ext_tr K9.2 (ext_tr K11.2.1 K13.2.1))))))) (gX92_partFault_77 k111  _ ⟨K13.1.1, K13.1.2⟩  )
  · exact And.intro rfl (And.intro (And.intro K0.1.1 K0.1.2) K0.2)
noncomputable def GX92_partFault_111 (a0 : Nat) (a2 : Int32) (a3 : Int64) (a7 : Int64) (a9 : Int32) (a10 : Int32) (M : FM) : (Nat × Int32 × Int64 × Int64 × Int32 × Int32 × FM) ⊕ (Int32 × FM) :=
  fi (a2 ≤ a10) (
    fi (a9 = 0) (
      GX92_partFault_234 (Int32.ofInt 7) M) (
      GX92_partFault_234 (Int32.ofInt 0) M)) (
    let r1 : Int64 × FM := GX92_number a0 (a10 + (Int32.ofInt 24)) (Int32.ofInt 8) M
    let r2 : Int64 × FM := GX92_number a0 (a10 + (Int32.ofInt 40)) (Int32.ofInt 8) r1.2
    let r3 : Int64 × FM := GX92_number a0 a10 (Int32.ofInt 4) r2.2
    fi ((lg_cmp r3.1 (Int64.ofInt 1)) = 0) (
      fi ((lg_cmp r2.1 (Int64.ofInt 0)) ≤ 0) (
        GX92_partFault_173 a0 a2 a3 a7 a9 a10 r1.1 r2.1 r3.2) (
        fi ((lg_cmp a7 (Int64.ofInt 0)) ≤ 0) (
          GX92_partFault_173 a0 a2 a3 a7 a9 a10 r1.1 r2.1 r3.2) (
          GX92_partFault_174 a0 a2 a3 a7 a9 a10 r1.1 r2.1 (Int32.ofInt 1) r3.2))) (
      GX92_partFault_173 a0 a2 a3 a7 a9 a10 r1.1 r2.1 r3.2))
def HX92_partFault_111 (a0 : Nat) (a2 : Int32) (a3 : Int64) (a7 : Int64) (a9 : Int32) (a10 : Int32) (M : FM) : Prop := ((a2 ≤ a10 → True) ∧ (¬ (a2 ≤ a10) → (HX92_number a0 (a10 + (Int32.ofInt 24)) (Int32.ofInt 8) M ∧ let r1 : Int64 × FM := GX92_number a0 (a10 + (Int32.ofInt 24)) (Int32.ofInt 8) M; (HX92_number a0 (a10 + (Int32.ofInt 40)) (Int32.ofInt 8) r1.2 ∧ let r2 : Int64 × FM := GX92_number a0 (a10 + (Int32.ofInt 40)) (Int32.ofInt 8) r1.2; (HX92_number a0 a10 (Int32.ofInt 4) r2.2 ∧ True)))))
theorem gX92_partFault_111 (k111 : Nat → Int32 → Int64 → Int64 → Int32 → Int32 → FM → Option (Int32 × FM)) (a0 : Nat) (a2 : Int32) (a3 : Int64) (a7 : Int64) (a9 : Int32) (a10 : Int32) (M : FM) (T : Ty M) (n_a0 : fm_is M 92 92 a0 = true) (h : HX92_partFault_111 a0 a2 a3 a7 a9 a10 M) : gs (FX92_partFault_111 fN k111 a0 a2 a3 a7 a9 a10 M) (GX92_partFault_111 a0 a2 a3 a7 a9 a10 M) (kX92_partFault k111) (pX92_partFault M) := by
  delta FX92_partFault_111 BX92_partFault_111
  refine gs_fi (fun c0_0 => ?_) (fun c0_0 => ?_)
  · refine gs_fi (fun c1_0 => ?_) (fun c1_0 => ?_)
    · exact gs_t (pX92_partFault_t (ext_r _)) (gX92_partFault_234 k111 _ _ ⟨T.1, T.2⟩  )
    · exact gs_t (pX92_partFault_t (ext_r _)) (gX92_partFault_234 k111 _ _ ⟨T.1, T.2⟩  )
  · refine gs_c n_a0 ?_
    refine gs_b (gX92_number _ _ _ _ (h.2 c0_0).1) (fun K2 => ?_)
    have f3 := (ext_is K2.2 (Nat.zero_lt_succ _) n_a0)
    refine gs_c f3 ?_
    refine gs_b (gX92_number _ _ _ _ (h.2 c0_0).2.1) (fun K4 => ?_)
    have f5 := (ext_is K4.2 (Nat.zero_lt_succ _) (ext_is K2.2 (Nat.zero_lt_succ _) n_a0))
    refine gs_c f5 ?_
    refine gs_b (gX92_number _ _ _ _ (h.2 c0_0).2.2.1) (fun K6 => ?_)
    refine gs_fi (fun c7_0 => ?_) (fun c7_0 => ?_)
    · refine gs_fi (fun c8_0 => ?_) (fun c8_0 => ?_)
      · exact gs_t (pX92_partFault_t (ext_tr K2.2 (ext_tr K4.2 K6.2))) (gX92_partFault_173 k111 _ _ _ _ _ _ _ _ _ ⟨K6.1.1, K6.1.2⟩  )
      · refine gs_fi (fun c9_0 => ?_) (fun c9_0 => ?_)
        · exact gs_t (pX92_partFault_t (ext_tr K2.2 (ext_tr K4.2 K6.2))) (gX92_partFault_173 k111 _ _ _ _ _ _ _ _ _ ⟨K6.1.1, K6.1.2⟩  )
        · exact gs_t (pX92_partFault_t (ext_tr K2.2 (ext_tr K4.2 K6.2))) (gX92_partFault_174 k111 _ _ _ _ _ _ _ _ _ _ ⟨K6.1.1, K6.1.2⟩  )
    · exact gs_t (pX92_partFault_t (ext_tr K2.2 (ext_tr K4.2 K6.2))) (gX92_partFault_173 k111 _ _ _ _ _ _ _ _ _ ⟨K6.1.1, K6.1.2⟩  )
noncomputable def GX92_partFault (a0 : Nat) (a1 : Int32) (a2 : Int32) (M : FM) : Int32 × FM := (FX92_partFault fN a0 a1 a2 M).getD (0, M)
def HX92_partFault (a0 : Nat) (a1 : Int32) (a2 : Int32) (M : FM) : Prop := ∃ r, FX92_partFault fN a0 a1 a2 M = some r ∧ OkR M r
theorem gX92_partFault (a0 : Nat) (a1 : Int32) (a2 : Int32) (M : FM) (h : HX92_partFault a0 a1 a2 M) : gd (FX92_partFault fN a0 a1 a2 M) (GX92_partFault a0 a1 a2 M) (OkR M) := gd_op h
def kX92_imageFault (k142 : Nat → Int64 → Int64 → Int32 → Int32 → FM → Option (Int32 × FM)) : (Nat × Int64 × Int64 × Int32 × Int32 × FM) ⊕ (Int32 × FM) → Option (Int32 × FM)
  | .inl (v0, v1, v2, v3, v4, M') => k142 v0 v1 v2 v3 v4 M'
  | .inr (r) => some r
def pX92_imageFault (M : FM) : (Nat × Int64 × Int64 × Int32 × Int32 × FM) ⊕ (Int32 × FM) → Prop
  | .inl (_, _, _, _, _, M') => OkV M M'
  | .inr (r) => OkR M r
theorem pX92_imageFault_t {M M1 : FM} (e : Ext M M1) : ∀ y, pX92_imageFault M1 y → pX92_imageFault M y
  | .inl (_, _, _, _, _, _), h => ⟨h.1, ext_tr e h.2⟩
  | .inr (r), h => ⟨h.1, ext_tr e h.2⟩
noncomputable def GX92_imageFault_222 (s0 : Int32) (M : FM) : (Nat × Int64 × Int64 × Int32 × Int32 × FM) ⊕ (Int32 × FM) :=
  (.inr (s0, M))
theorem gX92_imageFault_222 (k142 : Nat → Int64 → Int64 → Int32 → Int32 → FM → Option (Int32 × FM)) (s0 : Int32) (M : FM) (T : Ty M) : gs (FX92_imageFault_222 fN k142 s0 M) (GX92_imageFault_222 s0 M) (kX92_imageFault k142) (pX92_imageFault M) := by
  delta FX92_imageFault_222 BX92_imageFault_222
  exact And.intro rfl (And.intro (And.intro T.1 T.2) ((ext_r _)))
noncomputable def GX92_imageFault_220 (M : FM) : (Nat × Int64 × Int64 × Int32 × Int32 × FM) ⊕ (Int32 × FM) :=
  GX92_imageFault_222 (Int32.ofInt 8) M
theorem gX92_imageFault_220 (k142 : Nat → Int64 → Int64 → Int32 → Int32 → FM → Option (Int32 × FM)) (M : FM) (T : Ty M) : gs (FX92_imageFault_220 fN k142 M) (GX92_imageFault_220 M) (kX92_imageFault k142) (pX92_imageFault M) := by
  delta FX92_imageFault_220 BX92_imageFault_220
  exact gs_t (pX92_imageFault_t (ext_r _)) (gX92_imageFault_222 k142 _ _ ⟨T.1, T.2⟩  )
noncomputable def GX92_imageFault_177 (a0 : Nat) (a5 : Int32) (M : FM) : (Nat × Int64 × Int64 × Int32 × Int32 × FM) ⊕ (Int32 × FM) :=
  let r1 : Int64 × FM := GX92_number a0 (Int32.ofInt 24) (Int32.ofInt 8) M
  fi (a5 ≤ 0) (
    fi ((lg_cmp (r1.1 - r1.1 / (Int64.ofInt 2) * (Int64.ofInt 2)) (Int64.ofInt 0)) = 0) (
      let r2 : Int32 × FM := GX93_isByte r1.1 r1.2
      fi (r2.1 = 0) (
        GX92_imageFault_220 r2.2) (
        GX92_imageFault_222 (Int32.ofInt 0) r2.2)) (
      GX92_imageFault_220 r1.2)) (
    GX92_imageFault_222 a5 r1.2)
def HX92_imageFault_177 (a0 : Nat) (a5 : Int32) (M : FM) : Prop := (HX92_number a0 (Int32.ofInt 24) (Int32.ofInt 8) M ∧ True)
theorem gX92_imageFault_177 (k142 : Nat → Int64 → Int64 → Int32 → Int32 → FM → Option (Int32 × FM)) (a0 : Nat) (a5 : Int32) (M : FM) (T : Ty M) (n_a0 : fm_is M 92 92 a0 = true) (h : HX92_imageFault_177 a0 a5 M) : gs (FX92_imageFault_177 fN k142 a0 a5 M) (GX92_imageFault_177 a0 a5 M) (kX92_imageFault k142) (pX92_imageFault M) := by
  delta FX92_imageFault_177 BX92_imageFault_177
  refine gs_c n_a0 ?_
  refine gs_b (gX92_number _ _ _ _ h.1) (fun K0 => ?_)
  refine gs_fi (fun c1_0 => ?_) (fun c1_0 => ?_)
  · refine gs_n (by decide) ?_
    refine gs_fi (fun c2_0 => ?_) (fun c2_0 => ?_)
    · refine gs_b (gX93_isByte _ _ ⟨K0.1.1, K0.1.2⟩  ) (fun K3 => ?_)
      refine gs_fi (fun c4_0 => ?_) (fun c4_0 => ?_)
      · exact gs_t (pX92_imageFault_t (ext_tr K0.2 K3.2.1)) (gX92_imageFault_220 k142  _ ⟨K3.1.1, K3.1.2⟩  )
      · exact gs_t (pX92_imageFault_t (ext_tr K0.2 K3.2.1)) (gX92_imageFault_222 k142 _ _ ⟨K3.1.1, K3.1.2⟩  )
    · exact gs_t (pX92_imageFault_t K0.2) (gX92_imageFault_220 k142  _ ⟨K0.1.1, K0.1.2⟩  )
  · exact gs_t (pX92_imageFault_t K0.2) (gX92_imageFault_222 k142 _ _ ⟨K0.1.1, K0.1.2⟩  )
noncomputable def GX92_imageFault_134 (M : FM) : (Nat × Int64 × Int64 × Int32 × Int32 × FM) ⊕ (Int32 × FM) :=
  (.inr ((Int32.ofInt 4), M))
theorem gX92_imageFault_134 (k142 : Nat → Int64 → Int64 → Int32 → Int32 → FM → Option (Int32 × FM)) (M : FM) (T : Ty M) : gs (FX92_imageFault_134 fN k142 M) (GX92_imageFault_134 M) (kX92_imageFault k142) (pX92_imageFault M) := by
  delta FX92_imageFault_134 BX92_imageFault_134
  exact And.intro rfl (And.intro (And.intro T.1 T.2) ((ext_r _)))
noncomputable def GX92_imageFault_60 (M : FM) : (Nat × Int64 × Int64 × Int32 × Int32 × FM) ⊕ (Int32 × FM) :=
  (.inr ((Int32.ofInt 3), M))
theorem gX92_imageFault_60 (k142 : Nat → Int64 → Int64 → Int32 → Int32 → FM → Option (Int32 × FM)) (M : FM) (T : Ty M) : gs (FX92_imageFault_60 fN k142 M) (GX92_imageFault_60 M) (kX92_imageFault k142) (pX92_imageFault M) := by
  delta FX92_imageFault_60 BX92_imageFault_60
  exact And.intro rfl (And.intro (And.intro T.1 T.2) ((ext_r _)))
noncomputable def GX92_imageFault_0 (a0 : Nat) (M : FM) : (Nat × Int64 × Int64 × Int32 × Int32 × FM) ⊕ (Int32 × FM) :=
  fi ((Int32.ofInt 64) ≤ (M.1 309 a0 0)) (
    let r1 : Int32 × FM := GX92_begins a0 M
    fi (r1.1 = 0) (
      (.inr ((Int32.ofInt 2), r1.2))) (
      let r2 : Int64 × FM := GX92_number a0 (Int32.ofInt 16) (Int32.ofInt 2) r1.2
      fi ((lg_cmp r2.1 (Int64.ofInt 2)) = 0) (
        let r3 : Int64 × FM := GX92_number a0 (Int32.ofInt 18) (Int32.ofInt 2) r2.2
        fi ((lg_cmp r3.1 (Int64.ofInt 243)) = 0) (
          let r4 : Int64 × FM := GX92_number a0 (Int32.ofInt 20) (Int32.ofInt 4) r3.2
          fi ((lg_cmp r4.1 (Int64.ofInt 1)) = 0) (
            let r5 : Int64 × FM := GX92_number a0 (Int32.ofInt 56) (Int32.ofInt 2) r4.2
            let r6 : Int64 × FM := GX92_number a0 (Int32.ofInt 32) (Int32.ofInt 8) r5.2
            let r7 : Int64 × FM := GX92_number a0 (Int32.ofInt 52) (Int32.ofInt 2) r6.2
            fi ((lg_cmp r7.1 (Int64.ofInt 64)) = 0) (
              let r8 : Int64 × FM := GX92_number a0 (Int32.ofInt 54) (Int32.ofInt 2) r7.2
              fi ((lg_cmp r8.1 (Int64.ofInt 56)) = 0) (
                fi ((lg_cmp r5.1 (Int64.ofInt 1)) < 0) (
                  GX92_imageFault_134 r8.2) (
                  fi (0 < (lg_cmp r5.1 (Int64.ofInt 16))) (
                    GX92_imageFault_134 r8.2) (
                    let r9 : Int32 × FM := GX92_isOnTape a0 r6.1 ((Int64.ofInt 56) * r5.1) r8.2
                    fi (r9.1 = 0) (
                      GX92_imageFault_134 r9.2) (
                      (.inl (a0, r5.1, r6.1, (Int32.ofInt 0), (Int32.ofInt 0), r9.2)))))) (
                GX92_imageFault_134 r8.2)) (
              GX92_imageFault_134 r7.2)) (
            GX92_imageFault_60 r4.2)) (
          GX92_imageFault_60 r3.2)) (
        GX92_imageFault_60 r2.2))) (
    (.inr ((Int32.ofInt 1), M)))
def HX92_imageFault_0 (a0 : Nat) (M : FM) : Prop := (((Int32.ofInt 64) ≤ (M.1 309 a0 0) → let r1 : Int32 × FM := GX92_begins a0 M; ((r1.1 = 0 → True) ∧ (¬ (r1.1 = 0) → (HX92_number a0 (Int32.ofInt 16) (Int32.ofInt 2) r1.2 ∧ let r2 : Int64 × FM := GX92_number a0 (Int32.ofInt 16) (Int32.ofInt 2) r1.2; (((lg_cmp r2.1 (Int64.ofInt 2)) = 0 → (HX92_number a0 (Int32.ofInt 18) (Int32.ofInt 2) r2.2 ∧ let r3 : Int64 × FM := GX92_number a0 (Int32.ofInt 18) (Int32.ofInt 2) r2.2; (((lg_cmp r3.1 (Int64.ofInt 243)) = 0 → (HX92_number a0 (Int32.ofInt 20) (Int32.ofInt 4) r3.2 ∧ let r4 : Int64 × FM := GX92_number a0 (Int32.ofInt 20) (Int32.ofInt 4) r3.2; (((lg_cmp r4.1 (Int64.ofInt 1)) = 0 → (HX92_number a0 (Int32.ofInt 56) (Int32.ofInt 2) r4.2 ∧ let r5 : Int64 × FM := GX92_number a0 (Int32.ofInt 56) (Int32.ofInt 2) r4.2; (HX92_number a0 (Int32.ofInt 32) (Int32.ofInt 8) r5.2 ∧ let r6 : Int64 × FM := GX92_number a0 (Int32.ofInt 32) (Int32.ofInt 8) r5.2; (HX92_number a0 (Int32.ofInt 52) (Int32.ofInt 2) r6.2 ∧ let r7 : Int64 × FM := GX92_number a0 (Int32.ofInt 52) (Int32.ofInt 2) r6.2; (((lg_cmp r7.1 (Int64.ofInt 64)) = 0 → (HX92_number a0 (Int32.ofInt 54) (Int32.ofInt 2) r7.2 ∧ True)) ∧ (¬ ((lg_cmp r7.1 (Int64.ofInt 64)) = 0) → True)))))) ∧ (¬ ((lg_cmp r4.1 (Int64.ofInt 1)) = 0) → True)))) ∧ (¬ ((lg_cmp r3.1 (Int64.ofInt 243)) = 0) → True)))) ∧ (¬ ((lg_cmp r2.1 (Int64.ofInt 2)) = 0) → True)))))) ∧ (¬ ((Int32.ofInt 64) ≤ (M.1 309 a0 0)) → True))
theorem gX92_imageFault_0 (k142 : Nat → Int64 → Int64 → Int32 → Int32 → FM → Option (Int32 × FM)) (a0 : Nat) (M : FM) (T : Ty M) (n_a0 : fm_is M 92 92 a0 = true) (h : HX92_imageFault_0 a0 M) : gs (FX92_imageFault_0 fN k142 a0 M) (GX92_imageFault_0 a0 M) (kX92_imageFault k142) (pX92_imageFault M) := by
  delta FX92_imageFault_0 BX92_imageFault_0
  refine gs_c n_a0 ?_
  refine gs_fi (fun c0_0 => ?_) (fun c0_0 => ?_)
  · refine gs_c n_a0 ?_
    refine gs_b (gX92_begins _ _ ⟨T.1, T.2⟩ n_a0 ) (fun K1 => ?_)
    refine gs_fi (fun c2_0 => ?_) (fun c2_0 => ?_)
    · exact And.intro rfl (And.intro (And.intro K1.1.1 K1.1.2) K1.2.1)
    · have f3 := (ext_is K1.2.1 (Nat.zero_lt_succ _) n_a0)
      refine gs_c f3 ?_
      refine gs_b (gX92_number _ _ _ _ ((h.1 c0_0).2 c2_0).1) (fun K4 => ?_)
      refine gs_fi (fun c5_0 => ?_) (fun c5_0 => ?_)
      · have f6 := (ext_is K4.2 (Nat.zero_lt_succ _) (ext_is K1.2.1 (Nat.zero_lt_succ _) n_a0))
        refine gs_c f6 ?_
        refine gs_b (gX92_number _ _ _ _ (((h.1 c0_0).2 c2_0).2.1 c5_0).1) (fun K7 => ?_)
        refine gs_fi (fun c8_0 => ?_) (fun c8_0 => ?_)
        · have f9 := (ext_is K7.2 (Nat.zero_lt_succ _) (ext_is K4.2 (Nat.zero_lt_succ _) (ext_is K1.2.1 (Nat.zero_lt_succ _) n_a0)))
          refine gs_c f9 ?_
          refine gs_b (gX92_number _ _ _ _ ((((h.1 c0_0).2 c2_0).2.1 c5_0).2.1 c8_0).1) (fun K10 => ?_)
          refine gs_fi (fun c11_0 => ?_) (fun c11_0 => ?_)
          · have f12 := (ext_is K10.2 (Nat.zero_lt_succ _) (ext_is K7.2 (Nat.zero_lt_succ _) (ext_is K4.2 (Nat.zero_lt_succ _) (ext_is K1.2.1 (Nat.zero_lt_succ _) n_a0))))
            refine gs_c f12 ?_
            refine gs_b (gX92_number _ _ _ _ (((((h.1 c0_0).2 c2_0).2.1 c5_0).2.1 c8_0).2.1 c11_0).1) (fun K13 => ?_)
            have f14 := (ext_is K13.2 (Nat.zero_lt_succ _) (ext_is K10.2 (Nat.zero_lt_succ _) (ext_is K7.2 (Nat.zero_lt_succ _) (ext_is K4.2 (Nat.zero_lt_succ _) (ext_is K1.2.1 (Nat.zero_lt_succ _) n_a0)))))
            refine gs_c f14 ?_
            refine gs_b (gX92_number _ _ _ _ (((((h.1 c0_0).2 c2_0).2.1 c5_0).2.1 c8_0).2.1 c11_0).2.1) (fun K15 => ?_)
            have f16 := (ext_is K15.2 (Nat.zero_lt_succ _) (ext_is K13.2 (Nat.zero_lt_succ _) (ext_is K10.2 (Nat.zero_lt_succ _) (ext_is K7.2 (Nat.zero_lt_succ _) (ext_is K4.2 (Nat.zero_lt_succ _) (ext_is K1.2.1 (Nat.zero_lt_succ _) n_a0))))))
            refine gs_c f16 ?_
            refine gs_b (gX92_number _ _ _ _ (((((h.1 c0_0).2 c2_0).2.1 c5_0).2.1 c8_0).2.1 c11_0).2.2.1) (fun K17 => ?_)
            refine gs_fi (fun c18_0 => ?_) (fun c18_0 => ?_)
            · have f19 := (ext_is K17.2 (Nat.zero_lt_succ _) (ext_is K15.2 (Nat.zero_lt_succ _) (ext_is K13.2 (Nat.zero_lt_succ _) (ext_is K10.2 (Nat.zero_lt_succ _) (ext_is K7.2 (Nat.zero_lt_succ _) (ext_is K4.2 (Nat.zero_lt_succ _) (ext_is K1.2.1 (Nat.zero_lt_succ _) n_a0)))))))
              refine gs_c f19 ?_
              refine gs_b (gX92_number _ _ _ _ ((((((h.1 c0_0).2 c2_0).2.1 c5_0).2.1 c8_0).2.1 c11_0).2.2.2.1 c18_0).1) (fun K20 => ?_)
              refine gs_fi (fun c21_0 => ?_) (fun c21_0 => ?_)
              · refine gs_fi (fun c22_0 => ?_) (fun c22_0 => ?_)
                · exact gs_t (pX92_imageFault_t (ext_tr K1.2.1 (ext_tr K4.2 (ext_tr K7.2 (ext_tr K10.2 (ext_tr K13.2 (ext_tr K15.2 (ext_tr K17.2 K20.2)))))))) (gX92_imageFault_134 k142  _ ⟨K20.1.1, K20.1.2⟩  )
                · refine gs_fi (fun c23_0 => ?_) (fun c23_0 => ?_)
                  · exact gs_t (pX92_imageFault_t (ext_tr K1.2.1 (ext_tr K4.2 (ext_tr K7.2 (ext_tr K10.2 (ext_tr K13.2 (ext_tr K15.2 (ext_tr K17.2 K20.2)))))))) (gX92_imageFault_134 k142  _ ⟨K20.1.1, K20.1.2⟩  )
                  · have f24 := (ext_is K20.2 (Nat.zero_lt_succ _) (ext_is K17.2 (Nat.zero_lt_succ _) (ext_is K15.2 (Nat.zero_lt_succ _) (ext_is K13.2 (Nat.zero_lt_succ _) (ext_is K10.2 (Nat.zero_lt_succ _) (ext_is K7.2 (Nat.zero_lt_succ _) (ext_is K4.2 (Nat.zero_lt_succ _) (ext_is K1.2.1 (Nat.zero_lt_succ _) n_a0))))))))
                    refine gs_c f24 ?_
                    have f27 := (ext_is K20.2 (Nat.zero_lt_succ _) (ext_is K17.2 (Nat.zero_lt_succ _) (ext_is K15.2 (Nat.zero_lt_succ _) (ext_is K13.2 (Nat.zero_lt_succ _) (ext_is K10.2 (Nat.zero_lt_succ _) (ext_is K7.2 (Nat.zero_lt_succ _) (ext_is K4.2 (Nat.zero_lt_succ _) (ext_is K1.2.1 (Nat.zero_lt_succ _) n_a0))))))))
                    refine gs_b (gX92_isOnTape _ _ _ _ ⟨K20.1.1, K20.1.2⟩ f27 ) (fun K25 => ?_)
                    refine gs_fi (fun c26_0 => ?_) (fun c26_0 => ?_)
                    · exact gs_t (pX92_imageFault_t (ext_tr K1.2.1 (ext_tr K4.2 (ext_tr K7.2 (ext_tr K10.2 (ext_tr K13.2 (ext_tr K15.2 (ext_tr K17.2 (ext_tr K20.2 K25.2.1))))))))) (gX92_imageFault_134 k142  _ ⟨K25.1.1, K25.1.2⟩  )
                    · exact And.intro rfl (And.intro (And.intro K25.1.1 K25.1.2) ((ext_tr K1.2.1 (ext_tr K4.2 (ext_tr K7.2 (ext_tr K10.2 (ext_tr K13.2 (ext_tr K15.2 (ext_tr K17.2 (ext_tr K20.2 K25.2.1))))))))))
              · exact gs_t (pX92_imageFault_t (ext_tr K1.2.1 (ext_tr K4.2 (ext_tr K7.2 (ext_tr K10.2 (ext_tr K13.2 (ext_tr K15.2 (ext_tr K17.2 K20.2)))))))) (gX92_imageFault_134 k142  _ ⟨K20.1.1, K20.1.2⟩  )
            · exact gs_t (pX92_imageFault_t (ext_tr K1.2.1 (ext_tr K4.2 (ext_tr K7.2 (ext_tr K10.2 (ext_tr K13.2 (ext_tr K15.2 K17.2))))))) (gX92_imageFault_134 k142  _ ⟨K17.1.1, K17.1.2⟩  )
          · exact gs_t (pX92_imageFault_t (ext_tr K1.2.1 (ext_tr K4.2 (ext_tr K7.2 K10.2)))) (gX92_imageFault_60 k142  _ ⟨K10.1.1, K10.1.2⟩  )
        · exact gs_t (pX92_imageFault_t (ext_tr K1.2.1 (ext_tr K4.2 K7.2))) (gX92_imageFault_60 k142  _ ⟨K7.1.1, K7.1.2⟩  )
      · exact gs_t (pX92_imageFault_t (ext_tr K1.2.1 K4.2)) (gX92_imageFault_60 k142  _ ⟨K4.1.1, K4.1.2⟩  )
  · exact And.intro rfl (And.intro (And.intro T.1 T.2) ((ext_r _)))
noncomputable def GX92_imageFault_142 (a0 : Nat) (a1 : Int64) (a3 : Int64) (a5 : Int32) (a6 : Int32) (M : FM) : (Nat × Int64 × Int64 × Int32 × Int32 × FM) ⊕ (Int32 × FM) :=
  fi (0 ≤ (lg_cmp a6.toInt64 a1)) (
    GX92_imageFault_177 a0 a5 M) (
    fi (a5 = 0) (
      let r1 : Int32 × FM := GX92_partFault a0 a3.toInt32 (a3.toInt32 + ((Int32.ofInt 56) * a6)) M
      let x2 : Int32 := a6 + (Int32.ofInt 1)
      (.inl (a0, a1, a3, r1.1, x2, r1.2))) (
      GX92_imageFault_177 a0 a5 M))
def HX92_imageFault_142 (a0 : Nat) (a1 : Int64) (a3 : Int64) (a5 : Int32) (a6 : Int32) (M : FM) : Prop := ((0 ≤ (lg_cmp a6.toInt64 a1) → HX92_imageFault_177 a0 a5 M) ∧ (¬ (0 ≤ (lg_cmp a6.toInt64 a1)) → ((a5 = 0 → (HX92_partFault a0 a3.toInt32 (a3.toInt32 + ((Int32.ofInt 56) * a6)) M ∧ True)) ∧ (¬ (a5 = 0) → HX92_imageFault_177 a0 a5 M))))
theorem gX92_imageFault_142 (k142 : Nat → Int64 → Int64 → Int32 → Int32 → FM → Option (Int32 × FM)) (a0 : Nat) (a1 : Int64) (a3 : Int64) (a5 : Int32) (a6 : Int32) (M : FM) (T : Ty M) (n_a0 : fm_is M 92 92 a0 = true) (h : HX92_imageFault_142 a0 a1 a3 a5 a6 M) : gs (FX92_imageFault_142 fN k142 a0 a1 a3 a5 a6 M) (GX92_imageFault_142 a0 a1 a3 a5 a6 M) (kX92_imageFault k142) (pX92_imageFault M) := by
  delta FX92_imageFault_142 BX92_imageFault_142
  refine gs_fi (fun c0_0 => ?_) (fun c0_0 => ?_)
  · exact gs_t (pX92_imageFault_t (ext_r _)) (gX92_imageFault_177 k142 _ _ _ ⟨T.1, T.2⟩ n_a0 (h.1 c0_0))
  · refine gs_fi (fun c1_0 => ?_) (fun c1_0 => ?_)
    · refine gs_c n_a0 ?_
      refine gs_b (gX92_partFault _ _ _ _ ((h.2 c0_0).1 c1_0).1) (fun K2 => ?_)
      exact And.intro rfl (And.intro (And.intro K2.1.1 K2.1.2) K2.2)
    · exact gs_t (pX92_imageFault_t (ext_r _)) (gX92_imageFault_177 k142 _ _ _ ⟨T.1, T.2⟩ n_a0 ((h.2 c0_0).2 c1_0))
noncomputable def GX92_imageFault (a0 : Nat) (M : FM) : Int32 × FM := (FX92_imageFault fN a0 M).getD (0, M)
def HX92_imageFault (a0 : Nat) (M : FM) : Prop := ∃ r, FX92_imageFault fN a0 M = some r ∧ OkR M r
theorem gX92_imageFault (a0 : Nat) (M : FM) (h : HX92_imageFault a0 M) : gd (FX92_imageFault fN a0 M) (GX92_imageFault a0 M) (OkR M) := gd_op h
def kX92_loadImage (k33 : Nat → Int32 → Int32 → Int32 → FM → Option (Int32 × FM)) (k116 : Nat → Int32 → Int32 → Int32 → Int32 → Int64 → Int64 → Int64 → Int64 → FM → Option (Int32 × FM)) : (Nat × Int32 × Int32 × Int32 × FM) ⊕ (Nat × Int32 × Int32 × Int32 × Int32 × Int64 × Int64 × Int64 × Int64 × FM) ⊕ (Int32 × FM) → Option (Int32 × FM)
  | .inl (v0, v1, v2, v3, M') => k33 v0 v1 v2 v3 M'
  | .inr (.inl (v0, v1, v2, v3, v4, v5, v6, v7, v8, M')) => k116 v0 v1 v2 v3 v4 v5 v6 v7 v8 M'
  | .inr (.inr (r)) => some r
def pX92_loadImage (M : FM) : (Nat × Int32 × Int32 × Int32 × FM) ⊕ (Nat × Int32 × Int32 × Int32 × Int32 × Int64 × Int64 × Int64 × Int64 × FM) ⊕ (Int32 × FM) → Prop
  | .inl (_, _, _, _, M') => OkV M M'
  | .inr (.inl (_, _, _, _, _, _, _, _, _, M')) => OkV M M'
  | .inr (.inr (r)) => OkR M r
theorem pX92_loadImage_t {M M1 : FM} (e : Ext M M1) : ∀ y, pX92_loadImage M1 y → pX92_loadImage M y
  | .inl (_, _, _, _, _), h => ⟨h.1, ext_tr e h.2⟩
  | .inr (.inl (_, _, _, _, _, _, _, _, _, _)), h => ⟨h.1, ext_tr e h.2⟩
  | .inr (.inr (r)), h => ⟨h.1, ext_tr e h.2⟩
noncomputable def GX92_loadImage_156 (a0 : Nat) (a2 : Int32) (a3 : Int32) (a4 : Int32) (a5 : Int32) (a6 : Int64) (a8 : Int64) (a10 : Int64) (a12 : Int64) (s0 : Nat) (s1 : Int64) (s2 : Int32) (M : FM) : (Nat × Int32 × Int32 × Int32 × FM) ⊕ (Nat × Int32 × Int32 × Int32 × Int32 × Int64 × Int64 × Int64 × Int64 × FM) ⊕ (Int32 × FM) :=
  let M1 : FM := GX93_put s0 s1 s2 M
  let x2 : Int64 := (a12 + (Int64.ofInt 1))
  (.inr (.inl (a0, a2, a3, a4, a5, a6, a8, a10, x2, M1)))
def HX92_loadImage_156 (a0 : Nat) (a2 : Int32) (a3 : Int32) (a4 : Int32) (a5 : Int32) (a6 : Int64) (a8 : Int64) (a10 : Int64) (a12 : Int64) (s0 : Nat) (s1 : Int64) (s2 : Int32) (M : FM) : Prop := (HX93_put s0 s1 s2 M ∧ True)
theorem gX92_loadImage_156 (k33 : Nat → Int32 → Int32 → Int32 → FM → Option (Int32 × FM)) (k116 : Nat → Int32 → Int32 → Int32 → Int32 → Int64 → Int64 → Int64 → Int64 → FM → Option (Int32 × FM)) (a0 : Nat) (a2 : Int32) (a3 : Int32) (a4 : Int32) (a5 : Int32) (a6 : Int64) (a8 : Int64) (a10 : Int64) (a12 : Int64) (s0 : Nat) (s1 : Int64) (s2 : Int32) (M : FM) (T : Ty M) (n_s0 : fm_is M 98 98 s0 = true) (h : HX92_loadImage_156 a0 a2 a3 a4 a5 a6 a8 a10 a12 s0 s1 s2 M) : gs (FX92_loadImage_156 fN k33 k116 a0 a2 a3 a4 a5 a6 a8 a10 a12 s0 s1 s2 M) (GX92_loadImage_156 a0 a2 a3 a4 a5 a6 a8 a10 a12 s0 s1 s2 M) (kX92_loadImage k33 k116) (pX92_loadImage M) := by
  delta FX92_loadImage_156 BX92_loadImage_156
  refine gs_c n_s0 ?_
  refine gs_b (gX93_put _ _ _ _ h.1) (fun K0 => ?_)
  exact And.intro rfl (And.intro (And.intro K0.1.1 K0.1.2) K0.2)
noncomputable def GX92_loadImage_111 (a0 : Nat) (a2 : Int32) (a3 : Int32) (a4 : Int32) (a5 : Int32) (a6 : Int64) (a8 : Int64) (s0 : Int64) (M : FM) : (Nat × Int32 × Int32 × Int32 × FM) ⊕ (Nat × Int32 × Int32 × Int32 × Int32 × Int64 × Int64 × Int64 × Int64 × FM) ⊕ (Int32 × FM) :=
  (.inr (.inl (a0, a2, a3, a4, a5, a6, a8, s0, (Int64.ofInt 0), M)))
theorem gX92_loadImage_111 (k33 : Nat → Int32 → Int32 → Int32 → FM → Option (Int32 × FM)) (k116 : Nat → Int32 → Int32 → Int32 → Int32 → Int64 → Int64 → Int64 → Int64 → FM → Option (Int32 × FM)) (a0 : Nat) (a2 : Int32) (a3 : Int32) (a4 : Int32) (a5 : Int32) (a6 : Int64) (a8 : Int64) (s0 : Int64) (M : FM) (T : Ty M) : gs (FX92_loadImage_111 fN k33 k116 a0 a2 a3 a4 a5 a6 a8 s0 M) (GX92_loadImage_111 a0 a2 a3 a4 a5 a6 a8 s0 M) (kX92_loadImage k33 k116) (pX92_loadImage M) := by
  delta FX92_loadImage_111 BX92_loadImage_111
  exact And.intro rfl (And.intro (And.intro T.1 T.2) ((ext_r _)))
noncomputable def GX92_loadImage_0 (a0 : Nat) (M : FM) : (Nat × Int32 × Int32 × Int32 × FM) ⊕ (Nat × Int32 × Int32 × Int32 × Int32 × Int64 × Int64 × Int64 × Int64 × FM) ⊕ (Int32 × FM) :=
  let r1 : Int32 × FM := GX92_imageFault a0 M
  fi (r1.1 ≤ 0) (
    let r2 : Int64 × FM := GX92_number a0 (Int32.ofInt 32) (Int32.ofInt 8) r1.2
    let x3 : Int32 := r2.1.toInt32
    let r4 : Int64 × FM := GX92_number a0 (Int32.ofInt 56) (Int32.ofInt 2) r2.2
    let x5 : Int32 := r4.1.toInt32
    (.inl (a0, x3, x5, x3, r4.2))) (
    (.inr (.inr (r1.1, r1.2))))
def HX92_loadImage_0 (a0 : Nat) (M : FM) : Prop := (HX92_imageFault a0 M ∧ let r1 : Int32 × FM := GX92_imageFault a0 M; ((r1.1 ≤ 0 → (HX92_number a0 (Int32.ofInt 32) (Int32.ofInt 8) r1.2 ∧ let r2 : Int64 × FM := GX92_number a0 (Int32.ofInt 32) (Int32.ofInt 8) r1.2; let x3 : Int32 := r2.1.toInt32; (HX92_number a0 (Int32.ofInt 56) (Int32.ofInt 2) r2.2 ∧ True))) ∧ (¬ (r1.1 ≤ 0) → True)))
theorem gX92_loadImage_0 (k33 : Nat → Int32 → Int32 → Int32 → FM → Option (Int32 × FM)) (k116 : Nat → Int32 → Int32 → Int32 → Int32 → Int64 → Int64 → Int64 → Int64 → FM → Option (Int32 × FM)) (a0 : Nat) (M : FM) (T : Ty M) (n_a0 : fm_is M 92 92 a0 = true) (h : HX92_loadImage_0 a0 M) : gs (FX92_loadImage_0 fN k33 k116 a0 M) (GX92_loadImage_0 a0 M) (kX92_loadImage k33 k116) (pX92_loadImage M) := by
  delta FX92_loadImage_0 BX92_loadImage_0
  refine gs_c n_a0 ?_
  refine gs_b (gX92_imageFault _ _ h.1) (fun K0 => ?_)
  refine gs_fi (fun c1_0 => ?_) (fun c1_0 => ?_)
  · have f2 := (ext_is K0.2 (Nat.zero_lt_succ _) n_a0)
    refine gs_c f2 ?_
    refine gs_b (gX92_number _ _ _ _ (h.2.1 c1_0).1) (fun K3 => ?_)
    have f4 := (ext_is K3.2 (Nat.zero_lt_succ _) (ext_is K0.2 (Nat.zero_lt_succ _) n_a0))
    refine gs_c f4 ?_
    refine gs_b (gX92_number _ _ _ _ (h.2.1 c1_0).2.1) (fun K5 => ?_)
    exact And.intro rfl (And.intro (And.intro K5.1.1 K5.1.2) ((ext_tr K0.2 (ext_tr K3.2 K5.2))))
  · exact And.intro rfl (And.intro (And.intro K0.1.1 K0.1.2) K0.2)
noncomputable def GX92_loadImage_116 (a0 : Nat) (a2 : Int32) (a3 : Int32) (a4 : Int32) (a5 : Int32) (a6 : Int64) (a8 : Int64) (a10 : Int64) (a12 : Int64) (M : FM) : (Nat × Int32 × Int32 × Int32 × FM) ⊕ (Nat × Int32 × Int32 × Int32 × Int32 × Int64 × Int64 × Int64 × Int64 × FM) ⊕ (Int32 × FM) :=
  fi (0 ≤ (lg_cmp a12 a10)) (
    let x1 : Int32 := (a4 + (Int32.ofInt 56))
    (.inl (a0, a2, a3, x1, M))) (
    fi (0 ≤ (lg_cmp a12 a8)) (
      GX92_loadImage_156 a0 a2 a3 a4 a5 a6 a8 a10 a12 (M.2.2 298 a0 0) (a6 + a12) (Int32.ofInt 0) M) (
      let x2 : Int32 := (a5 + a12.toInt32)
      let x3 : Nat := (M.2.2 308 a0 0)
      GX92_loadImage_156 a0 a2 a3 a4 a5 a6 a8 a10 a12 (M.2.2 298 a0 0) (a6 + a12) (M.1 3 x3 x2.toNatClampNeg) M))
def HX92_loadImage_116 (a0 : Nat) (a2 : Int32) (a3 : Int32) (a4 : Int32) (a5 : Int32) (a6 : Int64) (a8 : Int64) (a10 : Int64) (a12 : Int64) (M : FM) : Prop := ((0 ≤ (lg_cmp a12 a10) → True) ∧ (¬ (0 ≤ (lg_cmp a12 a10)) → ((0 ≤ (lg_cmp a12 a8) → HX92_loadImage_156 a0 a2 a3 a4 a5 a6 a8 a10 a12 (M.2.2 298 a0 0) (a6 + a12) (Int32.ofInt 0) M) ∧ (¬ (0 ≤ (lg_cmp a12 a8)) → let x2 : Int32 := (a5 + a12.toInt32); let x3 : Nat := (M.2.2 308 a0 0); (fm_in M x3 x2 = true ∧ HX92_loadImage_156 a0 a2 a3 a4 a5 a6 a8 a10 a12 (M.2.2 298 a0 0) (a6 + a12) (M.1 3 x3 x2.toNatClampNeg) M)))))
theorem gX92_loadImage_116 (k33 : Nat → Int32 → Int32 → Int32 → FM → Option (Int32 × FM)) (k116 : Nat → Int32 → Int32 → Int32 → Int32 → Int64 → Int64 → Int64 → Int64 → FM → Option (Int32 × FM)) (a0 : Nat) (a2 : Int32) (a3 : Int32) (a4 : Int32) (a5 : Int32) (a6 : Int64) (a8 : Int64) (a10 : Int64) (a12 : Int64) (M : FM) (T : Ty M) (n_a0 : fm_is M 92 92 a0 = true) (h : HX92_loadImage_116 a0 a2 a3 a4 a5 a6 a8 a10 a12 M) : gs (FX92_loadImage_116 fN k33 k116 a0 a2 a3 a4 a5 a6 a8 a10 a12 M) (GX92_loadImage_116 a0 a2 a3 a4 a5 a6 a8 a10 a12 M) (kX92_loadImage k33 k116) (pX92_loadImage M) := by
  delta FX92_loadImage_116 BX92_loadImage_116
  refine gs_fi (fun c0_0 => ?_) (fun c0_0 => ?_)
  · exact And.intro rfl (And.intro (And.intro T.1 T.2) ((ext_r _)))
  · refine gs_c n_a0 ?_
    refine gs_fi (fun c1_0 => ?_) (fun c1_0 => ?_)
    · have f2 := (tN_298 T.1 n_a0)
      exact gs_t (pX92_loadImage_t (ext_r _)) (gX92_loadImage_156 k33 k116 _ _ _ _ _ _ _ _ _ _ _ _ _ ⟨T.1, T.2⟩ f2 ((h.2 c0_0).1 c1_0))
    · refine gs_c n_a0 ?_
      have f4 := (tN_308 T.1 n_a0)
      have f5 := ((h.2 c0_0).2 c1_0).1
      refine gs_c ⟨f4, f5⟩ ?_
      have f3 := (tN_298 T.1 n_a0)
      exact gs_t (pX92_loadImage_t (ext_r _)) (gX92_loadImage_156 k33 k116 _ _ _ _ _ _ _ _ _ _ _ _ _ ⟨T.1, T.2⟩ f3 ((h.2 c0_0).2 c1_0).2)
noncomputable def GX92_loadImage_33 (a0 : Nat) (a2 : Int32) (a3 : Int32) (a4 : Int32) (M : FM) : (Nat × Int32 × Int32 × Int32 × FM) ⊕ (Nat × Int32 × Int32 × Int32 × Int32 × Int64 × Int64 × Int64 × Int64 × FM) ⊕ (Int32 × FM) :=
  fi ((a2 + ((Int32.ofInt 56) * a3)) ≤ a4) (
    let r1 : Int64 × FM := GX92_number a0 (Int32.ofInt 24) (Int32.ofInt 8) M
    let M2 : FM := fm_sL r1.2 313 a0 0 r1.1
    (.inr (.inr ((Int32.ofInt 0), M2)))) (
    let r3 : Int64 × FM := GX92_number a0 (a4 + (Int32.ofInt 8)) (Int32.ofInt 8) M
    let x4 : Int32 := r3.1.toInt32
    let r5 : Int64 × FM := GX92_number a0 (a4 + (Int32.ofInt 24)) (Int32.ofInt 8) r3.2
    let r6 : Int64 × FM := GX92_number a0 (a4 + (Int32.ofInt 32)) (Int32.ofInt 8) r5.2
    let r7 : Int64 × FM := GX92_number a0 a4 (Int32.ofInt 4) r6.2
    fi ((lg_cmp r7.1 (Int64.ofInt 1)) = 0) (
      let r8 : Int64 × FM := GX92_number a0 (a4 + (Int32.ofInt 40)) (Int32.ofInt 8) r7.2
      GX92_loadImage_111 a0 a2 a3 a4 x4 r5.1 r6.1 r8.1 r8.2) (
      GX92_loadImage_111 a0 a2 a3 a4 x4 r5.1 r6.1 (Int64.ofInt 0) r7.2))
def HX92_loadImage_33 (a0 : Nat) (a2 : Int32) (a3 : Int32) (a4 : Int32) (M : FM) : Prop := (((a2 + ((Int32.ofInt 56) * a3)) ≤ a4 → (HX92_number a0 (Int32.ofInt 24) (Int32.ofInt 8) M ∧ True)) ∧ (¬ ((a2 + ((Int32.ofInt 56) * a3)) ≤ a4) → (HX92_number a0 (a4 + (Int32.ofInt 8)) (Int32.ofInt 8) M ∧ let r3 : Int64 × FM := GX92_number a0 (a4 + (Int32.ofInt 8)) (Int32.ofInt 8) M; let x4 : Int32 := r3.1.toInt32; (HX92_number a0 (a4 + (Int32.ofInt 24)) (Int32.ofInt 8) r3.2 ∧ let r5 : Int64 × FM := GX92_number a0 (a4 + (Int32.ofInt 24)) (Int32.ofInt 8) r3.2; (HX92_number a0 (a4 + (Int32.ofInt 32)) (Int32.ofInt 8) r5.2 ∧ let r6 : Int64 × FM := GX92_number a0 (a4 + (Int32.ofInt 32)) (Int32.ofInt 8) r5.2; (HX92_number a0 a4 (Int32.ofInt 4) r6.2 ∧ let r7 : Int64 × FM := GX92_number a0 a4 (Int32.ofInt 4) r6.2; (((lg_cmp r7.1 (Int64.ofInt 1)) = 0 → (HX92_number a0 (a4 + (Int32.ofInt 40)) (Int32.ofInt 8) r7.2 ∧ True)) ∧ (¬ ((lg_cmp r7.1 (Int64.ofInt 1)) = 0) → True))))))))
theorem gX92_loadImage_33 (k33 : Nat → Int32 → Int32 → Int32 → FM → Option (Int32 × FM)) (k116 : Nat → Int32 → Int32 → Int32 → Int32 → Int64 → Int64 → Int64 → Int64 → FM → Option (Int32 × FM)) (a0 : Nat) (a2 : Int32) (a3 : Int32) (a4 : Int32) (M : FM) (T : Ty M) (n_a0 : fm_is M 92 92 a0 = true) (h : HX92_loadImage_33 a0 a2 a3 a4 M) : gs (FX92_loadImage_33 fN k33 k116 a0 a2 a3 a4 M) (GX92_loadImage_33 a0 a2 a3 a4 M) (kX92_loadImage k33 k116) (pX92_loadImage M) := by
  delta FX92_loadImage_33 BX92_loadImage_33
  refine gs_fi (fun c0_0 => ?_) (fun c0_0 => ?_)
  · refine gs_c n_a0 ?_
    refine gs_b (gX92_number _ _ _ _ (h.1 c0_0).1) (fun K1 => ?_)
    have f2 := (ext_is K1.2 (Nat.zero_lt_succ _) n_a0)
    refine gs_c f2 ?_
    exact And.intro rfl (And.intro (And.intro K1.1.1 K1.1.2) ((ext_tr K1.2 (ext_dL (ext_r _)))))
  · refine gs_c n_a0 ?_
    refine gs_b (gX92_number _ _ _ _ (h.2 c0_0).1) (fun K3 => ?_)
    have f4 := (ext_is K3.2 (Nat.zero_lt_succ _) n_a0)
    refine gs_c f4 ?_
    refine gs_b (gX92_number _ _ _ _ (h.2 c0_0).2.1) (fun K5 => ?_)
    have f6 := (ext_is K5.2 (Nat.zero_lt_succ _) (ext_is K3.2 (Nat.zero_lt_succ _) n_a0))
    refine gs_c f6 ?_
    refine gs_b (gX92_number _ _ _ _ (h.2 c0_0).2.2.1) (fun K7 => ?_)
    have f8 := (ext_is K7.2 (Nat.zero_lt_succ _) (ext_is K5.2 (Nat.zero_lt_succ _) (ext_is K3.2 (Nat.zero_lt_succ _) n_a0)))
    refine gs_c f8 ?_
    refine gs_b (gX92_number _ _ _ _ (h.2 c0_0).2.2.2.1) (fun K9 => ?_)
    refine gs_fi (fun c10_0 => ?_) (fun c10_0 => ?_)
    · have f11 := (ext_is K9.2 (Nat.zero_lt_succ _) (ext_is K7.2 (Nat.zero_lt_succ _) (ext_is K5.2 (Nat.zero_lt_succ _) (ext_is K3.2 (Nat.zero_lt_succ _) n_a0))))
      refine gs_c f11 ?_
      refine gs_b (gX92_number _ _ _ _ ((h.2 c0_0).2.2.2.2.1 c10_0).1) (fun K12 => ?_)
      exact gs_t (pX92_loadImage_t (ext_tr K3.2 (ext_tr K5.2 (ext_tr K7.2 (ext_tr K9.2 K12.2))))) (gX92_loadImage_111 k33 k116 _ _ _ _ _ _ _ _ _ ⟨K12.1.1, K12.1.2⟩  )
    · exact gs_t (pX92_loadImage_t (ext_tr K3.2 (ext_tr K5.2 (ext_tr K7.2 K9.2)))) (gX92_loadImage_111 k33 k116 _ _ _ _ _ _ _ _ _ ⟨K9.1.1, K9.1.2⟩  )
noncomputable def GX92_loadImage (a0 : Nat) (M : FM) : Int32 × FM := (FX92_loadImage fN a0 M).getD (0, M)
def HX92_loadImage (a0 : Nat) (M : FM) : Prop := ∃ r, FX92_loadImage fN a0 M = some r ∧ OkR M r
theorem gX92_loadImage (a0 : Nat) (M : FM) (h : HX92_loadImage a0 M) : gd (FX92_loadImage fN a0 M) (GX92_loadImage a0 M) (OkR M) := gd_op h
def kX92_loadInput (k2 : Nat → Int32 → FM → Option (Int32 × FM)) : (Nat × Int32 × FM) ⊕ (Int32 × FM) → Option (Int32 × FM)
  | .inl (v0, v1, M') => k2 v0 v1 M'
  | .inr (r) => some r
def pX92_loadInput (M : FM) : (Nat × Int32 × FM) ⊕ (Int32 × FM) → Prop
  | .inl (_, _, M') => OkV M M'
  | .inr (r) => OkR M r
theorem pX92_loadInput_t {M M1 : FM} (e : Ext M M1) : ∀ y, pX92_loadInput M1 y → pX92_loadInput M y
  | .inl (_, _, _), h => ⟨h.1, ext_tr e h.2⟩
  | .inr (r), h => ⟨h.1, ext_tr e h.2⟩
noncomputable def GX92_loadInput_58 (a1 : Int32) (M : FM) : (Nat × Int32 × FM) ⊕ (Int32 × FM) :=
  (.inr (a1, M))
theorem gX92_loadInput_58 (k2 : Nat → Int32 → FM → Option (Int32 × FM)) (a1 : Int32) (M : FM) (T : Ty M) : gs (FX92_loadInput_58 fN k2 a1 M) (GX92_loadInput_58 a1 M) (kX92_loadInput k2) (pX92_loadInput M) := by
  delta FX92_loadInput_58 BX92_loadInput_58
  exact And.intro rfl (And.intro (And.intro T.1 T.2) ((ext_r _)))
noncomputable def GX92_loadInput_0 (a0 : Nat) (M : FM) : (Nat × Int32 × FM) ⊕ (Int32 × FM) :=
  (.inl (a0, (Int32.ofInt 0), M))
theorem gX92_loadInput_0 (k2 : Nat → Int32 → FM → Option (Int32 × FM)) (a0 : Nat) (M : FM) (T : Ty M) : gs (FX92_loadInput_0 fN k2 a0 M) (GX92_loadInput_0 a0 M) (kX92_loadInput k2) (pX92_loadInput M) := by
  delta FX92_loadInput_0 BX92_loadInput_0
  exact And.intro rfl (And.intro (And.intro T.1 T.2) ((ext_r _)))
noncomputable def GX92_loadInput_2 (a0 : Nat) (a1 : Int32) (M : FM) : (Nat × Int32 × FM) ⊕ (Int32 × FM) :=
  fi ((M.1 309 a0 0) ≤ a1) (
    GX92_loadInput_58 a1 M) (
    fi ((Int32.ofInt 65536) ≤ (M.1 312 a0 0)) (
      GX92_loadInput_58 a1 M) (
      let x1 : Int32 := ((M.1 311 a0 0) + (M.1 312 a0 0))
      let x2 : Nat := (M.2.2 308 a0 0)
      let x3 : Int32 := (x1 - x1 / (Int32.ofInt 65536) * (Int32.ofInt 65536))
      let x4 : Nat := (M.2.2 310 a0 0)
      let M5 : FM := fm_sI M 3 x4 x3.toNatClampNeg (M.1 3 x2 a1.toNatClampNeg)
      let M6 : FM := fm_sI M5 312 a0 0 ((M5.1 312 a0 0) + (Int32.ofInt 1))
      let x7 : Int32 := a1 + (Int32.ofInt 1)
      (.inl (a0, x7, M6))))
def HX92_loadInput_2 (a0 : Nat) (a1 : Int32) (M : FM) : Prop := (((M.1 309 a0 0) ≤ a1 → True) ∧ (¬ ((M.1 309 a0 0) ≤ a1) → (((Int32.ofInt 65536) ≤ (M.1 312 a0 0) → True) ∧ (¬ ((Int32.ofInt 65536) ≤ (M.1 312 a0 0)) → let x1 : Int32 := ((M.1 311 a0 0) + (M.1 312 a0 0)); let x2 : Nat := (M.2.2 308 a0 0); (fm_in M x2 a1 = true ∧ let x3 : Int32 := (x1 - x1 / (Int32.ofInt 65536) * (Int32.ofInt 65536)); let x4 : Nat := (M.2.2 310 a0 0); (fm_in M x4 x3 = true ∧ True))))))
theorem gX92_loadInput_2 (k2 : Nat → Int32 → FM → Option (Int32 × FM)) (a0 : Nat) (a1 : Int32) (M : FM) (T : Ty M) (n_a0 : fm_is M 92 92 a0 = true) (h : HX92_loadInput_2 a0 a1 M) : gs (FX92_loadInput_2 fN k2 a0 a1 M) (GX92_loadInput_2 a0 a1 M) (kX92_loadInput k2) (pX92_loadInput M) := by
  delta FX92_loadInput_2 BX92_loadInput_2
  refine gs_c n_a0 ?_
  refine gs_fi (fun c0_0 => ?_) (fun c0_0 => ?_)
  · exact gs_t (pX92_loadInput_t (ext_r _)) (gX92_loadInput_58 k2 _ _ ⟨T.1, T.2⟩  )
  · refine gs_c n_a0 ?_
    refine gs_fi (fun c1_0 => ?_) (fun c1_0 => ?_)
    · exact gs_t (pX92_loadInput_t (ext_r _)) (gX92_loadInput_58 k2 _ _ ⟨T.1, T.2⟩  )
    · refine gs_c n_a0 ?_
      refine gs_c n_a0 ?_
      refine gs_c n_a0 ?_
      refine gs_n (by decide) ?_
      refine gs_c n_a0 ?_
      have f4 := (tN_308 T.1 n_a0)
      have f5 := ((h.2 c0_0).2 c1_0).1
      refine gs_c ⟨f4, f5⟩ ?_
      have f2 := (tN_310 T.1 n_a0)
      have f3 := ((h.2 c0_0).2 c1_0).2.1
      refine gs_c ⟨f2, f3⟩ ?_
      refine gs_c n_a0 ?_
      refine gs_c n_a0 ?_
      exact And.intro rfl (And.intro (And.intro T.1 (tyb_sI (f := 312) rfl (tyb_s3 (t := 901) rfl T.2 f2))) ((ext_dI (ext_dI (ext_r _)))))
noncomputable def GX92_loadInput (a0 : Nat) (M : FM) : Int32 × FM := (FX92_loadInput fN a0 M).getD (0, M)
def HX92_loadInput (a0 : Nat) (M : FM) : Prop := ∃ r, FX92_loadInput fN a0 M = some r ∧ OkR M r
theorem gX92_loadInput (a0 : Nat) (M : FM) (h : HX92_loadInput a0 M) : gd (FX92_loadInput fN a0 M) (GX92_loadInput a0 M) (OkR M) := gd_op h
noncomputable def GX95_setDisk_17 (M : FM) : FM :=
  M
theorem gX95_setDisk_17 (M : FM) (T : Ty M) : gd (FX95_setDisk_17 M) (GX95_setDisk_17 M) (OkV M) := by
  delta FX95_setDisk_17 BX95_setDisk_17
  exact ⟨rfl, ⟨T.1, T.2⟩, (ext_r _)⟩
noncomputable def GX95_setDisk_0 (a0 : Nat) (a1 : Int32) (a2 : Int32) (M : FM) : FM :=
  let r1 : Int32 × FM := GX95_noPlace a0 a1 M
  fi (r1.1 = 0) (
    let M2 : FM := GX95_putByte (r1.2.2.2 327 a0 0) a1 a2 r1.2
    GX95_setDisk_17 M2) (
    GX95_setDisk_17 r1.2)
def HX95_setDisk_0 (a0 : Nat) (a1 : Int32) (a2 : Int32) (M : FM) : Prop := let r1 : Int32 × FM := GX95_noPlace a0 a1 M; ((r1.1 = 0 → (HX95_putByte (r1.2.2.2 327 a0 0) a1 a2 r1.2 ∧ True)) ∧ (¬ (r1.1 = 0) → True))
theorem gX95_setDisk_0 (a0 : Nat) (a1 : Int32) (a2 : Int32) (M : FM) (T : Ty M) (n_a0 : fm_is M 93 93 a0 = true) (h : HX95_setDisk_0 a0 a1 a2 M) : gd (FX95_setDisk_0 a0 a1 a2 M) (GX95_setDisk_0 a0 a1 a2 M) (OkV M) := by
  delta FX95_setDisk_0 BX95_setDisk_0
  refine gd_c n_a0 ?_
  refine gd_b (gX95_noPlace _ _ _ ⟨T.1, T.2⟩ n_a0 ) (fun K0 => ?_)
  refine gd_fi (fun c1_0 => ?_) (fun c1_0 => ?_)
  · have f2 := (ext_is K0.2.1 (Nat.zero_lt_succ _) n_a0)
    refine gd_c f2 ?_
    have f4 := (tN_327 K0.1.1 (ext_is K0.2.1 (Nat.zero_lt_succ _) n_a0))
    refine gd_b (gX95_putByte _ _ _ _ ⟨K0.1.1, K0.1.2⟩ f4 (h.1 c1_0).1) (fun K3 => ?_)
    exact gd_tV (ext_tr K0.2.1 K3.2) (gX95_setDisk_17  _ ⟨K3.1.1, K3.1.2⟩  )
  · exact gd_tV K0.2.1 (gX95_setDisk_17  _ ⟨K0.1.1, K0.1.2⟩  )
noncomputable def GX95_setDisk (a0 : Nat) (a1 : Int32) (a2 : Int32) (M : FM) : FM := GX95_setDisk_0 a0 a1 a2 M
def HX95_setDisk (a0 : Nat) (a1 : Int32) (a2 : Int32) (M : FM) : Prop := HX95_setDisk_0 a0 a1 a2 M
theorem gX95_setDisk (a0 : Nat) (a1 : Int32) (a2 : Int32) (M : FM) (T : Ty M) (n_a0 : fm_is M 93 93 a0 = true) (h : HX95_setDisk a0 a1 a2 M) : gd (FX95_setDisk a0 a1 a2 M) (GX95_setDisk a0 a1 a2 M) (OkV M) := gX95_setDisk_0 a0 a1 a2 M T n_a0 h
def kX92_load (k156 : Nat → Int32 → Int64 → Int32 → Int32 → FM → Option (Int32 × FM)) : (Nat × Int32 × Int64 × Int32 × Int32 × FM) ⊕ (Int32 × FM) → Option (Int32 × FM)
  | .inl (v0, v1, v2, v3, v4, M') => k156 v0 v1 v2 v3 v4 M'
  | .inr (r) => some r
def pX92_load (M : FM) : (Nat × Int32 × Int64 × Int32 × Int32 × FM) ⊕ (Int32 × FM) → Prop
  | .inl (_, _, _, _, _, M') => OkV M M'
  | .inr (r) => OkR M r
theorem pX92_load_t {M M1 : FM} (e : Ext M M1) : ∀ y, pX92_load M1 y → pX92_load M y
  | .inl (_, _, _, _, _, _), h => ⟨h.1, ext_tr e h.2⟩
  | .inr (r), h => ⟨h.1, ext_tr e h.2⟩
noncomputable def GX92_load_220 (a0 : Nat) (a6 : Int32) (M : FM) : (Nat × Int32 × Int64 × Int32 × Int32 × FM) ⊕ (Int32 × FM) :=
  let M1 : FM := fm_sI M 309 a0 0 (Int32.ofInt 0)
  (.inr (a6, M1))
theorem gX92_load_220 (k156 : Nat → Int32 → Int64 → Int32 → Int32 → FM → Option (Int32 × FM)) (a0 : Nat) (a6 : Int32) (M : FM) (T : Ty M) (n_a0 : fm_is M 92 92 a0 = true) : gs (FX92_load_220 fN k156 a0 a6 M) (GX92_load_220 a0 a6 M) (kX92_load k156) (pX92_load M) := by
  delta FX92_load_220 BX92_load_220
  refine gs_c n_a0 ?_
  exact And.intro rfl (And.intro (And.intro T.1 (tyb_sI (f := 309) rfl T.2)) ((ext_dI (ext_r _))))
noncomputable def GX92_load_214 (a0 : Nat) (a1 : Int32) (a2 : Int64) (a6 : Int32) (a7 : Int32) (M : FM) : (Nat × Int32 × Int64 × Int32 × Int32 × FM) ⊕ (Int32 × FM) :=
  let x1 : Int32 := a7 + (Int32.ofInt 1)
  (.inl (a0, a1, a2, a6, x1, M))
theorem gX92_load_214 (k156 : Nat → Int32 → Int64 → Int32 → Int32 → FM → Option (Int32 × FM)) (a0 : Nat) (a1 : Int32) (a2 : Int64) (a6 : Int32) (a7 : Int32) (M : FM) (T : Ty M) : gs (FX92_load_214 fN k156 a0 a1 a2 a6 a7 M) (GX92_load_214 a0 a1 a2 a6 a7 M) (kX92_load k156) (pX92_load M) := by
  delta FX92_load_214 BX92_load_214
  exact And.intro rfl (And.intro (And.intro T.1 T.2) ((ext_r _)))
noncomputable def GX92_load_107 (a0 : Nat) (a1 : Int32) (a2 : Int64) (s0 : Nat) (s1 : Int32) (M : FM) : (Nat × Int32 × Int64 × Int32 × Int32 × FM) ⊕ (Int32 × FM) :=
  let M1 : FM := fm_sI M 296 s0 0 s1
  fi ((M1.1 296 a0 0) ≤ 0) (
    let x2 : Int32 := (M1.1 309 a0 0)
    fi (a1 = (Int32.ofInt 1)) (
      let r3 : Int32 × FM := GX92_loadImage a0 M1
      GX92_load_220 a0 r3.1 r3.2) (
      fi (a1 = (Int32.ofInt 3)) (
        let r4 : Int32 × FM := GX92_loadInput a0 M1
        GX92_load_220 a0 r4.1 r4.2) (
        (.inl (a0, a1, a2, x2, (Int32.ofInt 0), M1))))) (
    (.inr ((Int32.ofInt 0), M1)))
def HX92_load_107 (a0 : Nat) (a1 : Int32) (a2 : Int64) (s0 : Nat) (s1 : Int32) (M : FM) : Prop := let M1 : FM := fm_sI M 296 s0 0 s1; (((M1.1 296 a0 0) ≤ 0 → let x2 : Int32 := (M1.1 309 a0 0); ((a1 = (Int32.ofInt 1) → (HX92_loadImage a0 M1 ∧ True)) ∧ (¬ (a1 = (Int32.ofInt 1)) → ((a1 = (Int32.ofInt 3) → (HX92_loadInput a0 M1 ∧ True)) ∧ (¬ (a1 = (Int32.ofInt 3)) → True))))) ∧ (¬ ((M1.1 296 a0 0) ≤ 0) → True))
theorem gX92_load_107 (k156 : Nat → Int32 → Int64 → Int32 → Int32 → FM → Option (Int32 × FM)) (a0 : Nat) (a1 : Int32) (a2 : Int64) (s0 : Nat) (s1 : Int32) (M : FM) (T : Ty M) (n_s0 : fm_is M 92 92 s0 = true) (n_a0 : fm_is M 92 92 a0 = true) (h : HX92_load_107 a0 a1 a2 s0 s1 M) : gs (FX92_load_107 fN k156 a0 a1 a2 s0 s1 M) (GX92_load_107 a0 a1 a2 s0 s1 M) (kX92_load k156) (pX92_load M) := by
  delta FX92_load_107 BX92_load_107
  refine gs_c n_s0 ?_
  refine gs_c n_a0 ?_
  refine gs_fi (fun c0_0 => ?_) (fun c0_0 => ?_)
  · refine gs_c n_a0 ?_
    refine gs_fi (fun c1_0 => ?_) (fun c1_0 => ?_)
    · refine gs_c n_a0 ?_
      refine gs_b (gX92_loadImage _ _ ((h.1 c0_0).1 c1_0).1) (fun K2 => ?_)
      have f3 := (ext_is K2.2 (Nat.zero_lt_succ _) n_a0)
      exact gs_t (pX92_load_t (ext_dI K2.2)) (gX92_load_220 k156 _ _ _ ⟨K2.1.1, K2.1.2⟩ f3 )
    · refine gs_fi (fun c4_0 => ?_) (fun c4_0 => ?_)
      · refine gs_c n_a0 ?_
        refine gs_b (gX92_loadInput _ _ (((h.1 c0_0).2 c1_0).1 c4_0).1) (fun K5 => ?_)
        have f6 := (ext_is K5.2 (Nat.zero_lt_succ _) n_a0)
        exact gs_t (pX92_load_t (ext_dI K5.2)) (gX92_load_220 k156 _ _ _ ⟨K5.1.1, K5.1.2⟩ f6 )
      · exact And.intro rfl (And.intro (And.intro T.1 (tyb_sI (f := 296) rfl T.2)) ((ext_dI (ext_r _))))
  · exact And.intro rfl (And.intro (And.intro T.1 (tyb_sI (f := 296) rfl T.2)) ((ext_dI (ext_r _))))
noncomputable def GX92_load_93 (a0 : Nat) (a1 : Int32) (a2 : Int64) (s0 : Nat) (M : FM) : (Nat × Int32 × Int64 × Int32 × Int32 × FM) ⊕ (Int32 × FM) :=
  GX92_load_107 a0 a1 a2 s0 (Int32.ofInt 1) M
def HX92_load_93 (a0 : Nat) (a1 : Int32) (a2 : Int64) (s0 : Nat) (M : FM) : Prop := HX92_load_107 a0 a1 a2 s0 (Int32.ofInt 1) M
theorem gX92_load_93 (k156 : Nat → Int32 → Int64 → Int32 → Int32 → FM → Option (Int32 × FM)) (a0 : Nat) (a1 : Int32) (a2 : Int64) (s0 : Nat) (M : FM) (T : Ty M) (n_s0 : fm_is M 92 92 s0 = true) (n_a0 : fm_is M 92 92 a0 = true) (h : HX92_load_93 a0 a1 a2 s0 M) : gs (FX92_load_93 fN k156 a0 a1 a2 s0 M) (GX92_load_93 a0 a1 a2 s0 M) (kX92_load k156) (pX92_load M) := by
  delta FX92_load_93 BX92_load_93
  exact gs_t (pX92_load_t (ext_r _)) (gX92_load_107 k156 _ _ _ _ _ _ ⟨T.1, T.2⟩ n_s0 n_a0 h)
noncomputable def GX92_load_81 (a0 : Nat) (a1 : Int32) (a2 : Int64) (s0 : Int32) (M : FM) : (Nat × Int32 × Int64 × Int32 × Int32 × FM) ⊕ (Int32 × FM) :=
  fi (a1 < 0) (
    GX92_load_93 a0 a1 a2 a0 M) (
    fi (a1 ≤ (Int32.ofInt 3)) (
      fi (s0 = 0) (
        GX92_load_107 a0 a1 a2 a0 (Int32.ofInt 0) M) (
        GX92_load_107 a0 a1 a2 a0 (Int32.ofInt 2) M)) (
      GX92_load_93 a0 a1 a2 a0 M))
def HX92_load_81 (a0 : Nat) (a1 : Int32) (a2 : Int64) (s0 : Int32) (M : FM) : Prop := ((a1 < 0 → HX92_load_93 a0 a1 a2 a0 M) ∧ (¬ (a1 < 0) → ((a1 ≤ (Int32.ofInt 3) → ((s0 = 0 → HX92_load_107 a0 a1 a2 a0 (Int32.ofInt 0) M) ∧ (¬ (s0 = 0) → HX92_load_107 a0 a1 a2 a0 (Int32.ofInt 2) M))) ∧ (¬ (a1 ≤ (Int32.ofInt 3)) → HX92_load_93 a0 a1 a2 a0 M))))
theorem gX92_load_81 (k156 : Nat → Int32 → Int64 → Int32 → Int32 → FM → Option (Int32 × FM)) (a0 : Nat) (a1 : Int32) (a2 : Int64) (s0 : Int32) (M : FM) (T : Ty M) (n_a0 : fm_is M 92 92 a0 = true) (h : HX92_load_81 a0 a1 a2 s0 M) : gs (FX92_load_81 fN k156 a0 a1 a2 s0 M) (GX92_load_81 a0 a1 a2 s0 M) (kX92_load k156) (pX92_load M) := by
  delta FX92_load_81 BX92_load_81
  refine gs_fi (fun c0_0 => ?_) (fun c0_0 => ?_)
  · exact gs_t (pX92_load_t (ext_r _)) (gX92_load_93 k156 _ _ _ _ _ ⟨T.1, T.2⟩ n_a0 n_a0 (h.1 c0_0))
  · refine gs_fi (fun c1_0 => ?_) (fun c1_0 => ?_)
    · refine gs_fi (fun c2_0 => ?_) (fun c2_0 => ?_)
      · exact gs_t (pX92_load_t (ext_r _)) (gX92_load_107 k156 _ _ _ _ _ _ ⟨T.1, T.2⟩ n_a0 n_a0 (((h.2 c0_0).1 c1_0).1 c2_0))
      · exact gs_t (pX92_load_t (ext_r _)) (gX92_load_107 k156 _ _ _ _ _ _ ⟨T.1, T.2⟩ n_a0 n_a0 (((h.2 c0_0).1 c1_0).2 c2_0))
    · exact gs_t (pX92_load_t (ext_r _)) (gX92_load_93 k156 _ _ _ _ _ ⟨T.1, T.2⟩ n_a0 n_a0 ((h.2 c0_0).2 c1_0))
noncomputable def GX92_load_80 (a0 : Nat) (a1 : Int32) (a2 : Int64) (M : FM) : (Nat × Int32 × Int64 × Int32 × Int32 × FM) ⊕ (Int32 × FM) :=
  GX92_load_81 a0 a1 a2 (Int32.ofInt 0) M
def HX92_load_80 (a0 : Nat) (a1 : Int32) (a2 : Int64) (M : FM) : Prop := HX92_load_81 a0 a1 a2 (Int32.ofInt 0) M
theorem gX92_load_80 (k156 : Nat → Int32 → Int64 → Int32 → Int32 → FM → Option (Int32 × FM)) (a0 : Nat) (a1 : Int32) (a2 : Int64) (M : FM) (T : Ty M) (n_a0 : fm_is M 92 92 a0 = true) (h : HX92_load_80 a0 a1 a2 M) : gs (FX92_load_80 fN k156 a0 a1 a2 M) (GX92_load_80 a0 a1 a2 M) (kX92_load k156) (pX92_load M) := by
  delta FX92_load_80 BX92_load_80
  exact gs_t (pX92_load_t (ext_r _)) (gX92_load_81 k156 _ _ _ _ _ ⟨T.1, T.2⟩ n_a0 h)
noncomputable def GX92_load_76 (a0 : Nat) (a1 : Int32) (a2 : Int64) (M : FM) : (Nat × Int32 × Int64 × Int32 × Int32 × FM) ⊕ (Int32 × FM) :=
  GX92_load_81 a0 a1 a2 (Int32.ofInt 1) M
def HX92_load_76 (a0 : Nat) (a1 : Int32) (a2 : Int64) (M : FM) : Prop := HX92_load_81 a0 a1 a2 (Int32.ofInt 1) M
theorem gX92_load_76 (k156 : Nat → Int32 → Int64 → Int32 → Int32 → FM → Option (Int32 × FM)) (a0 : Nat) (a1 : Int32) (a2 : Int64) (M : FM) (T : Ty M) (n_a0 : fm_is M 92 92 a0 = true) (h : HX92_load_76 a0 a1 a2 M) : gs (FX92_load_76 fN k156 a0 a1 a2 M) (GX92_load_76 a0 a1 a2 M) (kX92_load k156) (pX92_load M) := by
  delta FX92_load_76 BX92_load_76
  exact gs_t (pX92_load_t (ext_r _)) (gX92_load_81 k156 _ _ _ _ _ ⟨T.1, T.2⟩ n_a0 h)
noncomputable def GX92_load_53 (a0 : Nat) (a1 : Int32) (a2 : Int64) (s0 : Int32) (M : FM) : (Nat × Int32 × Int64 × Int32 × Int32 × FM) ⊕ (Int32 × FM) :=
  fi ((M.1 309 a0 0) ≤ 0) (
    GX92_load_80 a0 a1 a2 M) (
    fi (s0 = 0) (
      fi (a1 = 0) (
        GX92_load_76 a0 a1 a2 M) (
        fi (a1 = (Int32.ofInt 2)) (
          GX92_load_76 a0 a1 a2 M) (
          GX92_load_80 a0 a1 a2 M))) (
      GX92_load_80 a0 a1 a2 M))
def HX92_load_53 (a0 : Nat) (a1 : Int32) (a2 : Int64) (s0 : Int32) (M : FM) : Prop := (((M.1 309 a0 0) ≤ 0 → HX92_load_80 a0 a1 a2 M) ∧ (¬ ((M.1 309 a0 0) ≤ 0) → ((s0 = 0 → ((a1 = 0 → HX92_load_76 a0 a1 a2 M) ∧ (¬ (a1 = 0) → ((a1 = (Int32.ofInt 2) → HX92_load_76 a0 a1 a2 M) ∧ (¬ (a1 = (Int32.ofInt 2)) → HX92_load_80 a0 a1 a2 M))))) ∧ (¬ (s0 = 0) → HX92_load_80 a0 a1 a2 M))))
theorem gX92_load_53 (k156 : Nat → Int32 → Int64 → Int32 → Int32 → FM → Option (Int32 × FM)) (a0 : Nat) (a1 : Int32) (a2 : Int64) (s0 : Int32) (M : FM) (T : Ty M) (n_a0 : fm_is M 92 92 a0 = true) (h : HX92_load_53 a0 a1 a2 s0 M) : gs (FX92_load_53 fN k156 a0 a1 a2 s0 M) (GX92_load_53 a0 a1 a2 s0 M) (kX92_load k156) (pX92_load M) := by
  delta FX92_load_53 BX92_load_53
  refine gs_c n_a0 ?_
  refine gs_fi (fun c0_0 => ?_) (fun c0_0 => ?_)
  · exact gs_t (pX92_load_t (ext_r _)) (gX92_load_80 k156 _ _ _ _ ⟨T.1, T.2⟩ n_a0 (h.1 c0_0))
  · refine gs_fi (fun c1_0 => ?_) (fun c1_0 => ?_)
    · refine gs_fi (fun c2_0 => ?_) (fun c2_0 => ?_)
      · exact gs_t (pX92_load_t (ext_r _)) (gX92_load_76 k156 _ _ _ _ ⟨T.1, T.2⟩ n_a0 (((h.2 c0_0).1 c1_0).1 c2_0))
      · refine gs_fi (fun c3_0 => ?_) (fun c3_0 => ?_)
        · exact gs_t (pX92_load_t (ext_r _)) (gX92_load_76 k156 _ _ _ _ ⟨T.1, T.2⟩ n_a0 ((((h.2 c0_0).1 c1_0).2 c2_0).1 c3_0))
        · exact gs_t (pX92_load_t (ext_r _)) (gX92_load_80 k156 _ _ _ _ ⟨T.1, T.2⟩ n_a0 ((((h.2 c0_0).1 c1_0).2 c2_0).2 c3_0))
    · exact gs_t (pX92_load_t (ext_r _)) (gX92_load_80 k156 _ _ _ _ ⟨T.1, T.2⟩ n_a0 ((h.2 c0_0).2 c1_0))
noncomputable def GX92_load_52 (a0 : Nat) (a1 : Int32) (a2 : Int64) (M : FM) : (Nat × Int32 × Int64 × Int32 × Int32 × FM) ⊕ (Int32 × FM) :=
  GX92_load_53 a0 a1 a2 (Int32.ofInt 0) M
def HX92_load_52 (a0 : Nat) (a1 : Int32) (a2 : Int64) (M : FM) : Prop := HX92_load_53 a0 a1 a2 (Int32.ofInt 0) M
theorem gX92_load_52 (k156 : Nat → Int32 → Int64 → Int32 → Int32 → FM → Option (Int32 × FM)) (a0 : Nat) (a1 : Int32) (a2 : Int64) (M : FM) (T : Ty M) (n_a0 : fm_is M 92 92 a0 = true) (h : HX92_load_52 a0 a1 a2 M) : gs (FX92_load_52 fN k156 a0 a1 a2 M) (GX92_load_52 a0 a1 a2 M) (kX92_load k156) (pX92_load M) := by
  delta FX92_load_52 BX92_load_52
  exact gs_t (pX92_load_t (ext_r _)) (gX92_load_53 k156 _ _ _ _ _ ⟨T.1, T.2⟩ n_a0 h)
noncomputable def GX92_load_0 (a0 : Nat) (a1 : Int32) (a2 : Int64) (M : FM) : (Nat × Int32 × Int64 × Int32 × Int32 × FM) ⊕ (Int32 × FM) :=
  fi (a1 = 0) (
    let r1 : Int32 × FM := GX93_areBytes a2 ((M.1 309 a0 0).toInt64) M
    GX92_load_53 a0 a1 a2 r1.1 r1.2) (
    fi ((lg_cmp a2 (Int64.ofInt 0)) < 0) (
      GX92_load_52 a0 a1 a2 M) (
      fi (0 < (lg_cmp a2 (Int64.ofInt 2048))) (
        GX92_load_52 a0 a1 a2 M) (
        fi (0 < (lg_cmp (((Int64.ofInt 512) * a2) + (M.1 309 a0 0).toInt64) (Int64.ofInt 1048576))) (
          GX92_load_52 a0 a1 a2 M) (
          GX92_load_53 a0 a1 a2 (Int32.ofInt 1) M))))
def HX92_load_0 (a0 : Nat) (a1 : Int32) (a2 : Int64) (M : FM) : Prop := ((a1 = 0 → let r1 : Int32 × FM := GX93_areBytes a2 ((M.1 309 a0 0).toInt64) M; HX92_load_53 a0 a1 a2 r1.1 r1.2) ∧ (¬ (a1 = 0) → (((lg_cmp a2 (Int64.ofInt 0)) < 0 → HX92_load_52 a0 a1 a2 M) ∧ (¬ ((lg_cmp a2 (Int64.ofInt 0)) < 0) → ((0 < (lg_cmp a2 (Int64.ofInt 2048)) → HX92_load_52 a0 a1 a2 M) ∧ (¬ (0 < (lg_cmp a2 (Int64.ofInt 2048))) → ((0 < (lg_cmp (((Int64.ofInt 512) * a2) + (M.1 309 a0 0).toInt64) (Int64.ofInt 1048576)) → HX92_load_52 a0 a1 a2 M) ∧ (¬ (0 < (lg_cmp (((Int64.ofInt 512) * a2) + (M.1 309 a0 0).toInt64) (Int64.ofInt 1048576))) → HX92_load_53 a0 a1 a2 (Int32.ofInt 1) M))))))))
theorem gX92_load_0 (k156 : Nat → Int32 → Int64 → Int32 → Int32 → FM → Option (Int32 × FM)) (a0 : Nat) (a1 : Int32) (a2 : Int64) (M : FM) (T : Ty M) (n_a0 : fm_is M 92 92 a0 = true) (h : HX92_load_0 a0 a1 a2 M) : gs (FX92_load_0 fN k156 a0 a1 a2 M) (GX92_load_0 a0 a1 a2 M) (kX92_load k156) (pX92_load M) := by
  delta FX92_load_0 BX92_load_0
  refine gs_fi (fun c0_0 => ?_) (fun c0_0 => ?_)
  · refine gs_c n_a0 ?_
    refine gs_b (gX93_areBytes _ _ _ ⟨T.1, T.2⟩  ) (fun K1 => ?_)
    have f2 := (ext_is K1.2.1 (Nat.zero_lt_succ _) n_a0)
    exact gs_t (pX92_load_t K1.2.1) (gX92_load_53 k156 _ _ _ _ _ ⟨K1.1.1, K1.1.2⟩ f2 (h.1 c0_0))
  · refine gs_fi (fun c3_0 => ?_) (fun c3_0 => ?_)
    · exact gs_t (pX92_load_t (ext_r _)) (gX92_load_52 k156 _ _ _ _ ⟨T.1, T.2⟩ n_a0 ((h.2 c0_0).1 c3_0))
    · refine gs_fi (fun c4_0 => ?_) (fun c4_0 => ?_)
      · exact gs_t (pX92_load_t (ext_r _)) (gX92_load_52 k156 _ _ _ _ ⟨T.1, T.2⟩ n_a0 (((h.2 c0_0).2 c3_0).1 c4_0))
      · refine gs_c n_a0 ?_
        refine gs_fi (fun c5_0 => ?_) (fun c5_0 => ?_)
        · exact gs_t (pX92_load_t (ext_r _)) (gX92_load_52 k156 _ _ _ _ ⟨T.1, T.2⟩ n_a0 ((((h.2 c0_0).2 c3_0).2 c4_0).1 c5_0))
        · exact gs_t (pX92_load_t (ext_r _)) (gX92_load_53 k156 _ _ _ _ _ ⟨T.1, T.2⟩ n_a0 ((((h.2 c0_0).2 c3_0).2 c4_0).2 c5_0))
noncomputable def GX92_load_156 (a0 : Nat) (a1 : Int32) (a2 : Int64) (a6 : Int32) (a7 : Int32) (M : FM) : (Nat × Int32 × Int64 × Int32 × Int32 × FM) ⊕ (Int32 × FM) :=
  fi ((M.1 309 a0 0) ≤ a7) (
    GX92_load_220 a0 a6 M) (
    fi (a1 = 0) (
      let x1 : Nat := (M.2.2 308 a0 0)
      let x2 : Nat := (M.2.2 298 a0 0)
      let M3 : FM := GX93_put x2 (a2 + a7.toInt64) (M.1 3 x1 a7.toNatClampNeg) M
      GX92_load_214 a0 a1 a2 a6 a7 M3) (
      let x4 : Nat := (M.2.2 308 a0 0)
      let x5 : Nat := (M.2.2 300 a0 0)
      let M6 : FM := GX95_setDisk x5 ((a2.toInt32 * (Int32.ofInt 512)) + a7) (M.1 3 x4 a7.toNatClampNeg) M
      GX92_load_214 a0 a1 a2 a6 a7 M6))
def HX92_load_156 (a0 : Nat) (a1 : Int32) (a2 : Int64) (a6 : Int32) (a7 : Int32) (M : FM) : Prop := (((M.1 309 a0 0) ≤ a7 → True) ∧ (¬ ((M.1 309 a0 0) ≤ a7) → ((a1 = 0 → let x1 : Nat := (M.2.2 308 a0 0); (fm_in M x1 a7 = true ∧ let x2 : Nat := (M.2.2 298 a0 0); (HX93_put x2 (a2 + a7.toInt64) (M.1 3 x1 a7.toNatClampNeg) M ∧ True))) ∧ (¬ (a1 = 0) → let x4 : Nat := (M.2.2 308 a0 0); (fm_in M x4 a7 = true ∧ let x5 : Nat := (M.2.2 300 a0 0); (HX95_setDisk x5 ((a2.toInt32 * (Int32.ofInt 512)) + a7) (M.1 3 x4 a7.toNatClampNeg) M ∧ True))))))
theorem gX92_load_156 (k156 : Nat → Int32 → Int64 → Int32 → Int32 → FM → Option (Int32 × FM)) (a0 : Nat) (a1 : Int32) (a2 : Int64) (a6 : Int32) (a7 : Int32) (M : FM) (T : Ty M) (n_a0 : fm_is M 92 92 a0 = true) (h : HX92_load_156 a0 a1 a2 a6 a7 M) : gs (FX92_load_156 fN k156 a0 a1 a2 a6 a7 M) (GX92_load_156 a0 a1 a2 a6 a7 M) (kX92_load k156) (pX92_load M) := by
  delta FX92_load_156 BX92_load_156
  refine gs_c n_a0 ?_
  refine gs_fi (fun c0_0 => ?_) (fun c0_0 => ?_)
  · exact gs_t (pX92_load_t (ext_r _)) (gX92_load_220 k156 _ _ _ ⟨T.1, T.2⟩ n_a0 )
  · refine gs_fi (fun c1_0 => ?_) (fun c1_0 => ?_)
    · refine gs_c n_a0 ?_
      refine gs_c n_a0 ?_
      have f4 := (tN_308 T.1 n_a0)
      have f5 := ((h.2 c0_0).1 c1_0).1
      refine gs_c ⟨f4, f5⟩ ?_
      have f2 := (tN_298 T.1 n_a0)
      refine gs_c f2 ?_
      refine gs_b (gX93_put _ _ _ _ ((h.2 c0_0).1 c1_0).2.1) (fun K3 => ?_)
      exact gs_t (pX92_load_t K3.2) (gX92_load_214 k156 _ _ _ _ _ _ ⟨K3.1.1, K3.1.2⟩  )
    · refine gs_c n_a0 ?_
      refine gs_c n_a0 ?_
      have f9 := (tN_308 T.1 n_a0)
      have f10 := ((h.2 c0_0).2 c1_0).1
      refine gs_c ⟨f9, f10⟩ ?_
      have f6 := (tN_300 T.1 n_a0)
      refine gs_c f6 ?_
      have f8 := (tN_300 T.1 n_a0)
      refine gs_b (gX95_setDisk _ _ _ _ ⟨T.1, T.2⟩ f8 ((h.2 c0_0).2 c1_0).2.1) (fun K7 => ?_)
      exact gs_t (pX92_load_t K7.2) (gX92_load_214 k156 _ _ _ _ _ _ ⟨K7.1.1, K7.1.2⟩  )
noncomputable def GX92_load (a0 : Nat) (a1 : Int32) (a2 : Int64) (M : FM) : Int32 × FM := (FX92_load fN a0 a1 a2 M).getD (0, M)
def HX92_load (a0 : Nat) (a1 : Int32) (a2 : Int64) (M : FM) : Prop := ∃ r, FX92_load fN a0 a1 a2 M = some r ∧ OkR M r
theorem gX92_load (a0 : Nat) (a1 : Int32) (a2 : Int64) (M : FM) (h : HX92_load a0 a1 a2 M) : gd (FX92_load fN a0 a1 a2 M) (GX92_load a0 a1 a2 M) (OkR M) := gd_op h
def kX92_feed (k33 : Nat → Int32 → Int32 → Int32 → Int32 → Int32 → Int32 → FM → Option (Int32 × FM)) : (Nat × Int32 × Int32 × Int32 × Int32 × Int32 × Int32 × FM) ⊕ (Int32 × FM) → Option (Int32 × FM)
  | .inl (v0, v1, v2, v3, v4, v5, v6, M') => k33 v0 v1 v2 v3 v4 v5 v6 M'
  | .inr (r) => some r
def pX92_feed (M : FM) : (Nat × Int32 × Int32 × Int32 × Int32 × Int32 × Int32 × FM) ⊕ (Int32 × FM) → Prop
  | .inl (_, _, _, _, _, _, _, M') => OkV M M'
  | .inr (r) => OkR M r
theorem pX92_feed_t {M M1 : FM} (e : Ext M M1) : ∀ y, pX92_feed M1 y → pX92_feed M y
  | .inl (_, _, _, _, _, _, _, _), h => ⟨h.1, ext_tr e h.2⟩
  | .inr (r), h => ⟨h.1, ext_tr e h.2⟩
noncomputable def GX92_feed_86 (a0 : Nat) (a1 : Int32) (a2 : Int32) (a3 : Int32) (a4 : Int32) (a5 : Int32) (a6 : Int32) (s0 : Int32) (M : FM) : (Nat × Int32 × Int32 × Int32 × Int32 × Int32 × Int32 × FM) ⊕ (Int32 × FM) :=
  let x1 : Int32 := (M.1 309 a0 0)
  let x2 : Nat := (M.2.2 308 a0 0)
  let M3 : FM := fm_sI M 3 x2 x1.toNatClampNeg ((s0 >>> (((Int32.ofInt 24) - ((Int32.ofInt 8) * (a6 - a6 / (Int32.ofInt 4) * (Int32.ofInt 4)))) &&& 31)) &&& (Int32.ofInt 255))
  let M4 : FM := fm_sI M3 309 a0 0 ((M3.1 309 a0 0) + (Int32.ofInt 1))
  let x5 : Int32 := a6 + (Int32.ofInt 1)
  (.inl (a0, a1, a2, a3, a4, a5, x5, M4))
def HX92_feed_86 (a0 : Nat) (a1 : Int32) (a2 : Int32) (a3 : Int32) (a4 : Int32) (a5 : Int32) (a6 : Int32) (s0 : Int32) (M : FM) : Prop := let x1 : Int32 := (M.1 309 a0 0); let x2 : Nat := (M.2.2 308 a0 0); (fm_in M x2 x1 = true ∧ True)
theorem gX92_feed_86 (k33 : Nat → Int32 → Int32 → Int32 → Int32 → Int32 → Int32 → FM → Option (Int32 × FM)) (a0 : Nat) (a1 : Int32) (a2 : Int32) (a3 : Int32) (a4 : Int32) (a5 : Int32) (a6 : Int32) (s0 : Int32) (M : FM) (T : Ty M) (n_a0 : fm_is M 92 92 a0 = true) (h : HX92_feed_86 a0 a1 a2 a3 a4 a5 a6 s0 M) : gs (FX92_feed_86 fN k33 a0 a1 a2 a3 a4 a5 a6 s0 M) (GX92_feed_86 a0 a1 a2 a3 a4 a5 a6 s0 M) (kX92_feed k33) (pX92_feed M) := by
  delta FX92_feed_86 BX92_feed_86
  refine gs_c n_a0 ?_
  refine gs_c n_a0 ?_
  refine gs_n (by decide) ?_
  have f0 := (tN_308 T.1 n_a0)
  refine gs_c ⟨f0, h.1⟩ ?_
  refine gs_c n_a0 ?_
  refine gs_c n_a0 ?_
  exact And.intro rfl (And.intro (And.intro T.1 (tyb_sI (f := 309) rfl (tyb_s3 (t := 901) rfl T.2 f0))) ((ext_dI (ext_dI (ext_r _)))))
noncomputable def GX92_feed_18 (a0 : Nat) (a1 : Int32) (a2 : Int32) (a3 : Int32) (a4 : Int32) (a5 : Int32) (s0 : Nat) (s1 : Int32) (M : FM) : (Nat × Int32 × Int32 × Int32 × Int32 × Int32 × Int32 × FM) ⊕ (Int32 × FM) :=
  let M1 : FM := fm_sI M 296 s0 0 s1
  fi ((M1.1 296 a0 0) ≤ 0) (
    (.inl (a0, a1, a2, a3, a4, a5, (Int32.ofInt 0), M1))) (
    (.inr ((Int32.ofInt 0), M1)))
theorem gX92_feed_18 (k33 : Nat → Int32 → Int32 → Int32 → Int32 → Int32 → Int32 → FM → Option (Int32 × FM)) (a0 : Nat) (a1 : Int32) (a2 : Int32) (a3 : Int32) (a4 : Int32) (a5 : Int32) (s0 : Nat) (s1 : Int32) (M : FM) (T : Ty M) (n_s0 : fm_is M 92 92 s0 = true) (n_a0 : fm_is M 92 92 a0 = true) : gs (FX92_feed_18 fN k33 a0 a1 a2 a3 a4 a5 s0 s1 M) (GX92_feed_18 a0 a1 a2 a3 a4 a5 s0 s1 M) (kX92_feed k33) (pX92_feed M) := by
  delta FX92_feed_18 BX92_feed_18
  refine gs_c n_s0 ?_
  refine gs_c n_a0 ?_
  refine gs_fi (fun c0_0 => ?_) (fun c0_0 => ?_)
  · exact And.intro rfl (And.intro (And.intro T.1 (tyb_sI (f := 296) rfl T.2)) ((ext_dI (ext_r _))))
  · exact And.intro rfl (And.intro (And.intro T.1 (tyb_sI (f := 296) rfl T.2)) ((ext_dI (ext_r _))))
noncomputable def GX92_feed_0 (a0 : Nat) (a1 : Int32) (a2 : Int32) (a3 : Int32) (a4 : Int32) (a5 : Int32) (M : FM) : (Nat × Int32 × Int32 × Int32 × Int32 × Int32 × Int32 × FM) ⊕ (Int32 × FM) :=
  fi (((M.1 309 a0 0) + (Int32.ofInt 20)) ≤ (Int32.ofInt 65536)) (
    GX92_feed_18 a0 a1 a2 a3 a4 a5 a0 (Int32.ofInt 0) M) (
    GX92_feed_18 a0 a1 a2 a3 a4 a5 a0 (Int32.ofInt 1) M)
theorem gX92_feed_0 (k33 : Nat → Int32 → Int32 → Int32 → Int32 → Int32 → Int32 → FM → Option (Int32 × FM)) (a0 : Nat) (a1 : Int32) (a2 : Int32) (a3 : Int32) (a4 : Int32) (a5 : Int32) (M : FM) (T : Ty M) (n_a0 : fm_is M 92 92 a0 = true) : gs (FX92_feed_0 fN k33 a0 a1 a2 a3 a4 a5 M) (GX92_feed_0 a0 a1 a2 a3 a4 a5 M) (kX92_feed k33) (pX92_feed M) := by
  delta FX92_feed_0 BX92_feed_0
  refine gs_c n_a0 ?_
  refine gs_fi (fun c0_0 => ?_) (fun c0_0 => ?_)
  · exact gs_t (pX92_feed_t (ext_r _)) (gX92_feed_18 k33 _ _ _ _ _ _ _ _ _ ⟨T.1, T.2⟩ n_a0 n_a0 )
  · exact gs_t (pX92_feed_t (ext_r _)) (gX92_feed_18 k33 _ _ _ _ _ _ _ _ _ ⟨T.1, T.2⟩ n_a0 n_a0 )
noncomputable def GX92_feed_33 (a0 : Nat) (a1 : Int32) (a2 : Int32) (a3 : Int32) (a4 : Int32) (a5 : Int32) (a6 : Int32) (M : FM) : (Nat × Int32 × Int32 × Int32 × Int32 × Int32 × Int32 × FM) ⊕ (Int32 × FM) :=
  fi ((Int32.ofInt 20) ≤ a6) (
    (.inr ((M.1 309 a0 0), M))) (
    fi ((Int32.ofInt 4) ≤ a6) (
      fi ((Int32.ofInt 8) ≤ a6) (
        fi ((Int32.ofInt 12) ≤ a6) (
          fi ((Int32.ofInt 16) ≤ a6) (
            GX92_feed_86 a0 a1 a2 a3 a4 a5 a6 a5 M) (
            GX92_feed_86 a0 a1 a2 a3 a4 a5 a6 a4 M)) (
          GX92_feed_86 a0 a1 a2 a3 a4 a5 a6 a3 M)) (
        GX92_feed_86 a0 a1 a2 a3 a4 a5 a6 a2 M)) (
      GX92_feed_86 a0 a1 a2 a3 a4 a5 a6 a1 M))
def HX92_feed_33 (a0 : Nat) (a1 : Int32) (a2 : Int32) (a3 : Int32) (a4 : Int32) (a5 : Int32) (a6 : Int32) (M : FM) : Prop := (((Int32.ofInt 20) ≤ a6 → True) ∧ (¬ ((Int32.ofInt 20) ≤ a6) → (((Int32.ofInt 4) ≤ a6 → (((Int32.ofInt 8) ≤ a6 → (((Int32.ofInt 12) ≤ a6 → (((Int32.ofInt 16) ≤ a6 → HX92_feed_86 a0 a1 a2 a3 a4 a5 a6 a5 M) ∧ (¬ ((Int32.ofInt 16) ≤ a6) → HX92_feed_86 a0 a1 a2 a3 a4 a5 a6 a4 M))) ∧ (¬ ((Int32.ofInt 12) ≤ a6) → HX92_feed_86 a0 a1 a2 a3 a4 a5 a6 a3 M))) ∧ (¬ ((Int32.ofInt 8) ≤ a6) → HX92_feed_86 a0 a1 a2 a3 a4 a5 a6 a2 M))) ∧ (¬ ((Int32.ofInt 4) ≤ a6) → HX92_feed_86 a0 a1 a2 a3 a4 a5 a6 a1 M))))
theorem gX92_feed_33 (k33 : Nat → Int32 → Int32 → Int32 → Int32 → Int32 → Int32 → FM → Option (Int32 × FM)) (a0 : Nat) (a1 : Int32) (a2 : Int32) (a3 : Int32) (a4 : Int32) (a5 : Int32) (a6 : Int32) (M : FM) (T : Ty M) (n_a0 : fm_is M 92 92 a0 = true) (h : HX92_feed_33 a0 a1 a2 a3 a4 a5 a6 M) : gs (FX92_feed_33 fN k33 a0 a1 a2 a3 a4 a5 a6 M) (GX92_feed_33 a0 a1 a2 a3 a4 a5 a6 M) (kX92_feed k33) (pX92_feed M) := by
  delta FX92_feed_33 BX92_feed_33
  refine gs_fi (fun c0_0 => ?_) (fun c0_0 => ?_)
  · refine gs_c n_a0 ?_
    exact And.intro rfl (And.intro (And.intro T.1 T.2) ((ext_r _)))
  · refine gs_fi (fun c1_0 => ?_) (fun c1_0 => ?_)
    · refine gs_fi (fun c2_0 => ?_) (fun c2_0 => ?_)
      · refine gs_fi (fun c3_0 => ?_) (fun c3_0 => ?_)
        · refine gs_fi (fun c4_0 => ?_) (fun c4_0 => ?_)
          · exact gs_t (pX92_feed_t (ext_r _)) (gX92_feed_86 k33 _ _ _ _ _ _ _ _ _ ⟨T.1, T.2⟩ n_a0 (((((h.2 c0_0).1 c1_0).1 c2_0).1 c3_0).1 c4_0))
          · exact gs_t (pX92_feed_t (ext_r _)) (gX92_feed_86 k33 _ _ _ _ _ _ _ _ _ ⟨T.1, T.2⟩ n_a0 (((((h.2 c0_0).1 c1_0).1 c2_0).1 c3_0).2 c4_0))
        · exact gs_t (pX92_feed_t (ext_r _)) (gX92_feed_86 k33 _ _ _ _ _ _ _ _ _ ⟨T.1, T.2⟩ n_a0 ((((h.2 c0_0).1 c1_0).1 c2_0).2 c3_0))
      · exact gs_t (pX92_feed_t (ext_r _)) (gX92_feed_86 k33 _ _ _ _ _ _ _ _ _ ⟨T.1, T.2⟩ n_a0 (((h.2 c0_0).1 c1_0).2 c2_0))
    · exact gs_t (pX92_feed_t (ext_r _)) (gX92_feed_86 k33 _ _ _ _ _ _ _ _ _ ⟨T.1, T.2⟩ n_a0 ((h.2 c0_0).2 c1_0))
noncomputable def GX92_feed (a0 : Nat) (a1 : Int32) (a2 : Int32) (a3 : Int32) (a4 : Int32) (a5 : Int32) (M : FM) : Int32 × FM := (FX92_feed fN a0 a1 a2 a3 a4 a5 M).getD (0, M)
def HX92_feed (a0 : Nat) (a1 : Int32) (a2 : Int32) (a3 : Int32) (a4 : Int32) (a5 : Int32) (M : FM) : Prop := ∃ r, FX92_feed fN a0 a1 a2 a3 a4 a5 M = some r ∧ OkR M r
theorem gX92_feed (a0 : Nat) (a1 : Int32) (a2 : Int32) (a3 : Int32) (a4 : Int32) (a5 : Int32) (M : FM) (h : HX92_feed a0 a1 a2 a3 a4 a5 M) : gd (FX92_feed fN a0 a1 a2 a3 a4 a5 M) (GX92_feed a0 a1 a2 a3 a4 a5 M) (OkR M) := gd_op h
def kX92_sum (k74 : Nat → Int64 → Int64 → Int64 → FM → Option (Int64 × FM)) : (Nat × Int64 × Int64 × Int64 × FM) ⊕ (Int64 × FM) → Option (Int64 × FM)
  | .inl (v0, v1, v2, v3, M') => k74 v0 v1 v2 v3 M'
  | .inr (r) => some r
def pX92_sum (M : FM) : (Nat × Int64 × Int64 × Int64 × FM) ⊕ (Int64 × FM) → Prop
  | .inl (_, _, _, _, M') => OkV M M'
  | .inr (r) => OkR M r
theorem pX92_sum_t {M M1 : FM} (e : Ext M M1) : ∀ y, pX92_sum M1 y → pX92_sum M y
  | .inl (_, _, _, _, _), h => ⟨h.1, ext_tr e h.2⟩
  | .inr (r), h => ⟨h.1, ext_tr e h.2⟩
noncomputable def GX92_sum_116 (a8 : Int64) (M : FM) : (Nat × Int64 × Int64 × Int64 × FM) ⊕ (Int64 × FM) :=
  (.inr (a8, M))
theorem gX92_sum_116 (k74 : Nat → Int64 → Int64 → Int64 → FM → Option (Int64 × FM)) (a8 : Int64) (M : FM) (T : Ty M) : gs (FX92_sum_116 fN k74 a8 M) (GX92_sum_116 a8 M) (kX92_sum k74) (pX92_sum M) := by
  delta FX92_sum_116 BX92_sum_116
  exact And.intro rfl (And.intro (And.intro T.1 T.2) ((ext_r _)))
noncomputable def GX92_sum_65 (a0 : Nat) (a1 : Int64) (a3 : Int64) (s0 : Nat) (s1 : Int32) (M : FM) : (Nat × Int64 × Int64 × Int64 × FM) ⊕ (Int64 × FM) :=
  let M1 : FM := fm_sI M 296 s0 0 s1
  (.inl (a0, a3, (Int64.ofInt 0), a1, M1))
theorem gX92_sum_65 (k74 : Nat → Int64 → Int64 → Int64 → FM → Option (Int64 × FM)) (a0 : Nat) (a1 : Int64) (a3 : Int64) (s0 : Nat) (s1 : Int32) (M : FM) (T : Ty M) (n_s0 : fm_is M 92 92 s0 = true) : gs (FX92_sum_65 fN k74 a0 a1 a3 s0 s1 M) (GX92_sum_65 a0 a1 a3 s0 s1 M) (kX92_sum k74) (pX92_sum M) := by
  delta FX92_sum_65 BX92_sum_65
  refine gs_c n_s0 ?_
  exact And.intro rfl (And.intro (And.intro T.1 (tyb_sI (f := 296) rfl T.2)) ((ext_dI (ext_r _))))
noncomputable def GX92_sum_64 (a0 : Nat) (a1 : Int64) (a3 : Int64) (s0 : Nat) (M : FM) : (Nat × Int64 × Int64 × Int64 × FM) ⊕ (Int64 × FM) :=
  GX92_sum_65 a0 a1 a3 s0 (Int32.ofInt 0) M
theorem gX92_sum_64 (k74 : Nat → Int64 → Int64 → Int64 → FM → Option (Int64 × FM)) (a0 : Nat) (a1 : Int64) (a3 : Int64) (s0 : Nat) (M : FM) (T : Ty M) (n_s0 : fm_is M 92 92 s0 = true) : gs (FX92_sum_64 fN k74 a0 a1 a3 s0 M) (GX92_sum_64 a0 a1 a3 s0 M) (kX92_sum k74) (pX92_sum M) := by
  delta FX92_sum_64 BX92_sum_64
  exact gs_t (pX92_sum_t (ext_r _)) (gX92_sum_65 k74 _ _ _ _ _ _ ⟨T.1, T.2⟩ n_s0 )
noncomputable def GX92_sum_32 (a0 : Nat) (a1 : Int64) (a3 : Int64) (a5 : Int64) (s0 : Int32) (M : FM) : (Nat × Int64 × Int64 × Int64 × FM) ⊕ (Int64 × FM) :=
  fi (s0 = 0) (
    GX92_sum_65 a0 a1 a3 a0 (Int32.ofInt 1) M) (
    fi ((lg_cmp a5 (Int64.ofInt 0)) ≤ 0) (
      GX92_sum_64 a0 a1 a3 a0 M) (
      let r1 : Int32 × FM := GX93_areBytes a1 a5 M
      fi (r1.1 = 0) (
        GX92_sum_65 a0 a1 a3 a0 (Int32.ofInt 2) r1.2) (
        GX92_sum_64 a0 a1 a3 a0 r1.2)))
theorem gX92_sum_32 (k74 : Nat → Int64 → Int64 → Int64 → FM → Option (Int64 × FM)) (a0 : Nat) (a1 : Int64) (a3 : Int64) (a5 : Int64) (s0 : Int32) (M : FM) (T : Ty M) (n_a0 : fm_is M 92 92 a0 = true) : gs (FX92_sum_32 fN k74 a0 a1 a3 a5 s0 M) (GX92_sum_32 a0 a1 a3 a5 s0 M) (kX92_sum k74) (pX92_sum M) := by
  delta FX92_sum_32 BX92_sum_32
  refine gs_fi (fun c0_0 => ?_) (fun c0_0 => ?_)
  · exact gs_t (pX92_sum_t (ext_r _)) (gX92_sum_65 k74 _ _ _ _ _ _ ⟨T.1, T.2⟩ n_a0 )
  · refine gs_fi (fun c1_0 => ?_) (fun c1_0 => ?_)
    · exact gs_t (pX92_sum_t (ext_r _)) (gX92_sum_64 k74 _ _ _ _ _ ⟨T.1, T.2⟩ n_a0 )
    · refine gs_b (gX93_areBytes _ _ _ ⟨T.1, T.2⟩  ) (fun K2 => ?_)
      refine gs_fi (fun c3_0 => ?_) (fun c3_0 => ?_)
      · have f4 := (ext_is K2.2.1 (Nat.zero_lt_succ _) n_a0)
        exact gs_t (pX92_sum_t K2.2.1) (gX92_sum_65 k74 _ _ _ _ _ _ ⟨K2.1.1, K2.1.2⟩ f4 )
      · have f5 := (ext_is K2.2.1 (Nat.zero_lt_succ _) n_a0)
        exact gs_t (pX92_sum_t K2.2.1) (gX92_sum_64 k74 _ _ _ _ _ ⟨K2.1.1, K2.1.2⟩ f5 )
noncomputable def GX92_sum_31 (a0 : Nat) (a1 : Int64) (a3 : Int64) (a5 : Int64) (M : FM) : (Nat × Int64 × Int64 × Int64 × FM) ⊕ (Int64 × FM) :=
  GX92_sum_32 a0 a1 a3 a5 (Int32.ofInt 0) M
theorem gX92_sum_31 (k74 : Nat → Int64 → Int64 → Int64 → FM → Option (Int64 × FM)) (a0 : Nat) (a1 : Int64) (a3 : Int64) (a5 : Int64) (M : FM) (T : Ty M) (n_a0 : fm_is M 92 92 a0 = true) : gs (FX92_sum_31 fN k74 a0 a1 a3 a5 M) (GX92_sum_31 a0 a1 a3 a5 M) (kX92_sum k74) (pX92_sum M) := by
  delta FX92_sum_31 BX92_sum_31
  exact gs_t (pX92_sum_t (ext_r _)) (gX92_sum_32 k74 _ _ _ _ _ _ ⟨T.1, T.2⟩ n_a0 )
noncomputable def GX92_sum_0 (a0 : Nat) (a1 : Int64) (a3 : Int64) (M : FM) : (Nat × Int64 × Int64 × Int64 × FM) ⊕ (Int64 × FM) :=
  let x1 : Int64 := (a3 - a1)
  fi ((lg_cmp a3 a1) < 0) (
    GX92_sum_31 a0 a1 a3 x1 M) (
    fi ((lg_cmp x1 (Int64.ofInt 0)) < 0) (
      GX92_sum_31 a0 a1 a3 x1 M) (
      fi (0 < (lg_cmp x1 (Int64.ofInt 65536))) (
        GX92_sum_31 a0 a1 a3 x1 M) (
        GX92_sum_32 a0 a1 a3 x1 (Int32.ofInt 1) M)))
theorem gX92_sum_0 (k74 : Nat → Int64 → Int64 → Int64 → FM → Option (Int64 × FM)) (a0 : Nat) (a1 : Int64) (a3 : Int64) (M : FM) (T : Ty M) (n_a0 : fm_is M 92 92 a0 = true) : gs (FX92_sum_0 fN k74 a0 a1 a3 M) (GX92_sum_0 a0 a1 a3 M) (kX92_sum k74) (pX92_sum M) := by
  delta FX92_sum_0 BX92_sum_0
  refine gs_fi (fun c0_0 => ?_) (fun c0_0 => ?_)
  · exact gs_t (pX92_sum_t (ext_r _)) (gX92_sum_31 k74 _ _ _ _ _ ⟨T.1, T.2⟩ n_a0 )
  · refine gs_fi (fun c1_0 => ?_) (fun c1_0 => ?_)
    · exact gs_t (pX92_sum_t (ext_r _)) (gX92_sum_31 k74 _ _ _ _ _ ⟨T.1, T.2⟩ n_a0 )
    · refine gs_fi (fun c2_0 => ?_) (fun c2_0 => ?_)
      · exact gs_t (pX92_sum_t (ext_r _)) (gX92_sum_31 k74 _ _ _ _ _ ⟨T.1, T.2⟩ n_a0 )
      · exact gs_t (pX92_sum_t (ext_r _)) (gX92_sum_32 k74 _ _ _ _ _ _ ⟨T.1, T.2⟩ n_a0 )
noncomputable def GX92_sum_74 (a0 : Nat) (a3 : Int64) (a8 : Int64) (a10 : Int64) (M : FM) : (Nat × Int64 × Int64 × Int64 × FM) ⊕ (Int64 × FM) :=
  fi ((M.1 296 a0 0) = 0) (
    fi (0 ≤ (lg_cmp a10 a3)) (
      GX92_sum_116 a8 M) (
      let x1 : Nat := (M.2.2 298 a0 0)
      let r2 : Int32 × FM := GX93_get x1 a10 M
      let x3 : Int64 := (((Int64.ofInt 31) * a8) + r2.1.toInt64)
      let x4 : Int64 := (a10 + (Int64.ofInt 1))
      (.inl (a0, a3, x3, x4, r2.2)))) (
    GX92_sum_116 a8 M)
def HX92_sum_74 (a0 : Nat) (a3 : Int64) (a8 : Int64) (a10 : Int64) (M : FM) : Prop := (((M.1 296 a0 0) = 0 → ((0 ≤ (lg_cmp a10 a3) → True) ∧ (¬ (0 ≤ (lg_cmp a10 a3)) → let x1 : Nat := (M.2.2 298 a0 0); (HX93_get x1 a10 M ∧ True)))) ∧ (¬ ((M.1 296 a0 0) = 0) → True))
theorem gX92_sum_74 (k74 : Nat → Int64 → Int64 → Int64 → FM → Option (Int64 × FM)) (a0 : Nat) (a3 : Int64) (a8 : Int64) (a10 : Int64) (M : FM) (T : Ty M) (n_a0 : fm_is M 92 92 a0 = true) (h : HX92_sum_74 a0 a3 a8 a10 M) : gs (FX92_sum_74 fN k74 a0 a3 a8 a10 M) (GX92_sum_74 a0 a3 a8 a10 M) (kX92_sum k74) (pX92_sum M) := by
  delta FX92_sum_74 BX92_sum_74
  refine gs_c n_a0 ?_
  refine gs_fi (fun c0_0 => ?_) (fun c0_0 => ?_)
  · refine gs_fi (fun c1_0 => ?_) (fun c1_0 => ?_)
    · exact gs_t (pX92_sum_t (ext_r _)) (gX92_sum_116 k74 _ _ ⟨T.1, T.2⟩  )
    · refine gs_c n_a0 ?_
      have f2 := (tN_298 T.1 n_a0)
      refine gs_c f2 ?_
      have f4 := (tN_298 T.1 n_a0)
      refine gs_b (gX93_get _ _ _ ⟨T.1, T.2⟩ f4 ((h.1 c0_0).2 c1_0).1) (fun K3 => ?_)
      exact And.intro rfl (And.intro (And.intro K3.1.1 K3.1.2) K3.2)
  · exact gs_t (pX92_sum_t (ext_r _)) (gX92_sum_116 k74 _ _ ⟨T.1, T.2⟩  )
noncomputable def GX92_sum (a0 : Nat) (a1 : Int64) (a2 : Int64) (M : FM) : Int64 × FM := (FX92_sum fN a0 a1 a2 M).getD (0, M)
def HX92_sum (a0 : Nat) (a1 : Int64) (a2 : Int64) (M : FM) : Prop := ∃ r, FX92_sum fN a0 a1 a2 M = some r ∧ OkR M r
theorem gX92_sum (a0 : Nat) (a1 : Int64) (a2 : Int64) (M : FM) (h : HX92_sum a0 a1 a2 M) : gd (FX92_sum fN a0 a1 a2 M) (GX92_sum a0 a1 a2 M) (OkR M) := gd_op h
