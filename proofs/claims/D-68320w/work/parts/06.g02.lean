/-! functions without guards, printed by gen/gg.py -/
set_option maxRecDepth 100000
def kX2_start (k15 : Nat → Int32 → Int32 → FM → Option (Int32 × FM)) (k69 : Nat → Int32 → Nat → Int32 → Int32 → FM → Option (Int32 × FM)) : (Nat × Int32 × Int32 × FM) ⊕ (Nat × Int32 × Nat × Int32 × Int32 × FM) ⊕ (Int32 × FM) → Option (Int32 × FM)
  | .inl (v0, v1, v2, M') => k15 v0 v1 v2 M'
  | .inr (.inl (v0, v1, v2, v3, v4, M')) => k69 v0 v1 v2 v3 v4 M'
  | .inr (.inr (r)) => some r
def pX2_start (M : FM) : (Nat × Int32 × Int32 × FM) ⊕ (Nat × Int32 × Nat × Int32 × Int32 × FM) ⊕ (Int32 × FM) → Prop
  | .inl (_, _, _, M') => OkV M M'
  | .inr (.inl (_, _, _, _, _, M')) => OkV M M'
  | .inr (.inr (r)) => OkR M r
theorem pX2_start_t {M M1 : FM} (e : Ext M M1) : ∀ y, pX2_start M1 y → pX2_start M y
  | .inl (_, _, _, _), h => ⟨h.1, ext_tr e h.2⟩
  | .inr (.inl (_, _, _, _, _, _)), h => ⟨h.1, ext_tr e h.2⟩
  | .inr (.inr (r)), h => ⟨h.1, ext_tr e h.2⟩
noncomputable def GX2_start_0 (a0 : Nat) (M : FM) : (Nat × Int32 × Int32 × FM) ⊕ (Nat × Int32 × Nat × Int32 × Int32 × FM) ⊕ (Int32 × FM) :=
  let x1 : Nat := (M.2.2 190 a0 0)
  let x2 : Nat := (M.2.2 193 a0 0)
  let r3 : Int32 × FM := GX4_describe x2 (Int32.ofNat (M.2.2 1 x1 0)) M
  (.inl (a0, r3.1, (Int32.ofInt 0), r3.2))
def HX2_start_0 (a0 : Nat) (M : FM) : Prop := let x1 : Nat := (M.2.2 190 a0 0); let x2 : Nat := (M.2.2 193 a0 0); (HX4_describe x2 (Int32.ofNat (M.2.2 1 x1 0)) M ∧ True)
theorem gX2_start_0 (k15 : Nat → Int32 → Int32 → FM → Option (Int32 × FM)) (k69 : Nat → Int32 → Nat → Int32 → Int32 → FM → Option (Int32 × FM)) (a0 : Nat) (M : FM) (T : Ty M) (n_a0 : fm_is M 67 67 a0 = true) (h : HX2_start_0 a0 M) : gs (FX2_start_0 fN k15 k69 a0 M) (GX2_start_0 a0 M) (kX2_start k15 k69) (pX2_start M) := by
  delta FX2_start_0 BX2_start_0
  refine gs_c n_a0 ?_
  refine gs_c n_a0 ?_
  have f0 := (fm_w (lo' := 901) (hi' := 990) rfl rfl (tN_190 T.1 n_a0))
  refine gs_c f0 ?_
  have f1 := (tN_193 T.1 n_a0)
  refine gs_c f1 ?_
  refine gs_b (gX4_describe _ _ _ h.1) (fun K2 => ?_)
  exact And.intro rfl (And.intro (And.intro K2.1.1 K2.1.2) K2.2)
noncomputable def GX2_start_69 (a0 : Nat) (a1 : Int32) (a2 : Nat) (a3 : Int32) (a4 : Int32) (M : FM) : (Nat × Int32 × Int32 × FM) ⊕ (Nat × Int32 × Nat × Int32 × Int32 × FM) ⊕ (Int32 × FM) :=
  fi (a3 ≤ a4) (
    let x1 : Nat := (M.2.2 189 a0 0)
    let M2 : FM := fm_sI M 22 x1 0 (Int32.ofInt 0)
    let x3 : Nat := (M2.2.2 189 a0 0)
    let M4 : FM := fm_sI M2 23 x3 0 (Int32.ofInt (-1))
    (.inr (.inr (a1, M4)))) (
    let x5 : Nat := (M.2.2 3 a2 a4.toNatClampNeg)
    let x6 : Nat := (M.2.2 192 a0 0)
    let M7 : FM := GX46_reset x5 (M.2.1 188 x6 0) M
    let x8 : Int32 := a4 + (Int32.ofInt 1)
    (.inr (.inl (a0, a1, a2, a3, x8, M7))))
def HX2_start_69 (a0 : Nat) (a1 : Int32) (a2 : Nat) (a3 : Int32) (a4 : Int32) (M : FM) : Prop := ((a3 ≤ a4 → True) ∧ (¬ (a3 ≤ a4) → (fm_in M a2 a4 = true ∧ let x5 : Nat := (M.2.2 3 a2 a4.toNatClampNeg); let x6 : Nat := (M.2.2 192 a0 0); (HX46_reset x5 (M.2.1 188 x6 0) M ∧ True))))
theorem gX2_start_69 (k15 : Nat → Int32 → Int32 → FM → Option (Int32 × FM)) (k69 : Nat → Int32 → Nat → Int32 → Int32 → FM → Option (Int32 × FM)) (a0 : Nat) (a1 : Int32) (a2 : Nat) (a3 : Int32) (a4 : Int32) (M : FM) (T : Ty M) (n_a0 : fm_is M 67 67 a0 = true) (n_a2 : fm_is M 922 922 a2 = true) (h : HX2_start_69 a0 a1 a2 a3 a4 M) : gs (FX2_start_69 fN k15 k69 a0 a1 a2 a3 a4 M) (GX2_start_69 a0 a1 a2 a3 a4 M) (kX2_start k15 k69) (pX2_start M) := by
  delta FX2_start_69 BX2_start_69
  refine gs_fi (fun c0_0 => ?_) (fun c0_0 => ?_)
  · refine gs_c n_a0 ?_
    have f1 := (tN_189 T.1 n_a0)
    refine gs_c f1 ?_
    refine gs_c fz_0 ?_
    refine gs_c n_a0 ?_
    have f2 := (tN_189 T.1 n_a0)
    refine gs_c f2 ?_
    exact And.intro rfl (And.intro (And.intro T.1 (tyb_sI (f := 23) rfl (tyb_sIb (f := 22) rfl T.2 fz_0))) ((ext_dI (ext_dI (ext_r _)))))
  · have f6 := (fm_w (lo' := 910) (hi' := 990) rfl rfl n_a2)
    refine gs_c ⟨f6, (h.2 c0_0).1⟩ ?_
    refine gs_c n_a0 ?_
    have f3 := (tN_192 T.1 n_a0)
    refine gs_c f3 ?_
    have f4 := (tE_922 T.1 n_a2 (h.2 c0_0).1)
    refine gs_c f4 ?_
    refine gs_b (gX46_reset _ _ _ (h.2 c0_0).2.1) (fun K5 => ?_)
    exact And.intro rfl (And.intro (And.intro K5.1.1 K5.1.2) K5.2)
noncomputable def GX2_start_15 (a0 : Nat) (a1 : Int32) (a2 : Int32) (M : FM) : (Nat × Int32 × Int32 × FM) ⊕ (Nat × Int32 × Nat × Int32 × Int32 × FM) ⊕ (Int32 × FM) :=
  fi (a1 ≤ a2) (
    let x1 : Nat := (M.2.2 190 a0 0)
    let x2 : Int32 := (Int32.ofNat (M.2.2 1 x1 0))
    (.inr (.inl (a0, a1, x1, x2, (Int32.ofInt 0), M)))) (
    let x3 : Nat := (M.2.2 189 a0 0)
    let x4 : Nat := (M.2.2 193 a0 0)
    let x5 : Nat := (M.2.2 57 x4 0)
    let x6 : Nat := (M.2.2 256 x5 0)
    let r7 : Int32 × FM := GX3_get x6 a2 M
    let x8 : Nat := (M.2.2 18 x3 0)
    let M9 : FM := GX11_store x8 ((Int64.ofInt 2151669760) + a2.toInt64) (Int32.ofInt 1) r7.1.toInt64 r7.2
    let x10 : Int32 := a2 + (Int32.ofInt 1)
    (.inl (a0, a1, x10, M9)))
def HX2_start_15 (a0 : Nat) (a1 : Int32) (a2 : Int32) (M : FM) : Prop := ((a1 ≤ a2 → True) ∧ (¬ (a1 ≤ a2) → let x3 : Nat := (M.2.2 189 a0 0); let x4 : Nat := (M.2.2 193 a0 0); let x5 : Nat := (M.2.2 57 x4 0); let x6 : Nat := (M.2.2 256 x5 0); (HX3_get x6 a2 M ∧ let r7 : Int32 × FM := GX3_get x6 a2 M; let x8 : Nat := (M.2.2 18 x3 0); (HX11_store x8 ((Int64.ofInt 2151669760) + a2.toInt64) (Int32.ofInt 1) r7.1.toInt64 r7.2 ∧ True))))
theorem gX2_start_15 (k15 : Nat → Int32 → Int32 → FM → Option (Int32 × FM)) (k69 : Nat → Int32 → Nat → Int32 → Int32 → FM → Option (Int32 × FM)) (a0 : Nat) (a1 : Int32) (a2 : Int32) (M : FM) (T : Ty M) (n_a0 : fm_is M 67 67 a0 = true) (h : HX2_start_15 a0 a1 a2 M) : gs (FX2_start_15 fN k15 k69 a0 a1 a2 M) (GX2_start_15 a0 a1 a2 M) (kX2_start k15 k69) (pX2_start M) := by
  delta FX2_start_15 BX2_start_15
  refine gs_fi (fun c0_0 => ?_) (fun c0_0 => ?_)
  · refine gs_c n_a0 ?_
    have f1 := (fm_w (lo' := 901) (hi' := 990) rfl rfl (tN_190 T.1 n_a0))
    refine gs_c f1 ?_
    exact And.intro rfl (And.intro (And.intro T.1 T.2) ((ext_r _)))
  · refine gs_c n_a0 ?_
    have f2 := (tN_189 T.1 n_a0)
    refine gs_c f2 ?_
    refine gs_c n_a0 ?_
    have f3 := (tN_193 T.1 n_a0)
    refine gs_c f3 ?_
    have f4 := (tN_57 T.1 (tN_193 T.1 n_a0))
    refine gs_c f4 ?_
    have f5 := (tN_256 T.1 (tN_57 T.1 (tN_193 T.1 n_a0)))
    refine gs_c f5 ?_
    have f10 := (tN_256 T.1 (tN_57 T.1 (tN_193 T.1 n_a0)))
    refine gs_b (gX3_get _ _ _ ⟨T.1, T.2⟩ f10 (h.2 c0_0).1) (fun K6 => ?_)
    have f7 := (ext_is K6.2 (Nat.zero_lt_succ _) (tN_18 T.1 (tN_189 T.1 n_a0)))
    refine gs_c f7 ?_
    have f9 := (ext_is K6.2 (Nat.zero_lt_succ _) (tN_18 T.1 (tN_189 T.1 n_a0)))
    refine gs_b (gX11_store _ _ _ _ _ ⟨K6.1.1, K6.1.2⟩ f9 (h.2 c0_0).2.1) (fun K8 => ?_)
    exact And.intro rfl (And.intro (And.intro K8.1.1 K8.1.2) ((ext_tr K6.2 K8.2)))
noncomputable def GX2_start (a0 : Nat) (M : FM) : Int32 × FM := (FX2_start fN a0 M).getD (0, M)
def HX2_start (a0 : Nat) (M : FM) : Prop := ∃ r, FX2_start fN a0 M = some r ∧ OkR M r
theorem gX2_start (a0 : Nat) (M : FM) (h : HX2_start a0 M) : gd (FX2_start fN a0 M) (GX2_start a0 M) (OkR M) := gd_op h
def kX97_four (k2 : Nat → Int64 → Int32 → FM → Option (FM)) : (Nat × Int64 × Int32 × FM) ⊕ (FM) → Option (FM)
  | .inl (v0, v1, v2, M') => k2 v0 v1 v2 M'
  | .inr (r) => some r
def pX97_four (M : FM) : (Nat × Int64 × Int32 × FM) ⊕ (FM) → Prop
  | .inl (_, _, _, M') => OkV M M'
  | .inr (r) => OkV M r
theorem pX97_four_t {M M1 : FM} (e : Ext M M1) : ∀ y, pX97_four M1 y → pX97_four M y
  | .inl (_, _, _, _), h => ⟨h.1, ext_tr e h.2⟩
  | .inr (r), h => ⟨h.1, ext_tr e h.2⟩
noncomputable def GX97_four_0 (a0 : Nat) (a1 : Int64) (M : FM) : (Nat × Int64 × Int32 × FM) ⊕ (FM) :=
  (.inl (a0, a1, (Int32.ofInt 3), M))
theorem gX97_four_0 (k2 : Nat → Int64 → Int32 → FM → Option (FM)) (a0 : Nat) (a1 : Int64) (M : FM) (T : Ty M) : gs (FX97_four_0 fN k2 a0 a1 M) (GX97_four_0 a0 a1 M) (kX97_four k2) (pX97_four M) := by
  delta FX97_four_0 BX97_four_0
  exact And.intro rfl (And.intro (And.intro T.1 T.2) ((ext_r _)))
noncomputable def GX97_four_2 (a0 : Nat) (a1 : Int64) (a3 : Int32) (M : FM) : (Nat × Int64 × Int32 × FM) ⊕ (FM) :=
  fi (a3 < 0) (
    (.inr M)) (
    let x1 : Int32 := (M.1 418 a0 0)
    let x2 : Nat := (M.2.2 417 a0 0)
    let M3 : FM := fm_sI M 3 x2 x1.toNatClampNeg ((a1 >>> (((Int32.ofInt 8) * a3).toInt64 &&& 63)).toInt32 &&& (Int32.ofInt 255))
    let M4 : FM := fm_sI M3 418 a0 0 ((M3.1 418 a0 0) + (Int32.ofInt 1))
    let x5 : Int32 := a3 + (Int32.ofInt (-1))
    (.inl (a0, a1, x5, M4)))
def HX97_four_2 (a0 : Nat) (a1 : Int64) (a3 : Int32) (M : FM) : Prop := ((a3 < 0 → True) ∧ (¬ (a3 < 0) → let x1 : Int32 := (M.1 418 a0 0); let x2 : Nat := (M.2.2 417 a0 0); (fm_in M x2 x1 = true ∧ True)))
theorem gX97_four_2 (k2 : Nat → Int64 → Int32 → FM → Option (FM)) (a0 : Nat) (a1 : Int64) (a3 : Int32) (M : FM) (T : Ty M) (n_a0 : fm_is M 100 100 a0 = true) (h : HX97_four_2 a0 a1 a3 M) : gs (FX97_four_2 fN k2 a0 a1 a3 M) (GX97_four_2 a0 a1 a3 M) (kX97_four k2) (pX97_four M) := by
  delta FX97_four_2 BX97_four_2
  refine gs_fi (fun c0_0 => ?_) (fun c0_0 => ?_)
  · exact And.intro rfl (And.intro (And.intro T.1 T.2) ((ext_r _)))
  · refine gs_c n_a0 ?_
    refine gs_c n_a0 ?_
    have f1 := (tN_417 T.1 n_a0)
    refine gs_c ⟨f1, (h.2 c0_0).1⟩ ?_
    refine gs_c n_a0 ?_
    refine gs_c n_a0 ?_
    exact And.intro rfl (And.intro (And.intro T.1 (tyb_sI (f := 418) rfl (tyb_s3 (t := 901) rfl T.2 f1))) ((ext_dI (ext_dI (ext_r _)))))
noncomputable def GX97_four (a0 : Nat) (a1 : Int64) (M : FM) : FM := (FX97_four fN a0 a1 M).getD M
def HX97_four (a0 : Nat) (a1 : Int64) (M : FM) : Prop := ∃ r, FX97_four fN a0 a1 M = some r ∧ OkV M r
theorem gX97_four (a0 : Nat) (a1 : Int64) (M : FM) (h : HX97_four a0 a1 M) : gd (FX97_four fN a0 a1 M) (GX97_four a0 a1 M) (OkV M) := gd_op h
def kX97_characters (k2 : Nat → Nat → Int32 → FM → Option (FM)) : (Nat × Nat × Int32 × FM) ⊕ (FM) → Option (FM)
  | .inl (v0, v1, v2, M') => k2 v0 v1 v2 M'
  | .inr (r) => some r
def pX97_characters (M : FM) : (Nat × Nat × Int32 × FM) ⊕ (FM) → Prop
  | .inl (_, _, _, M') => OkV M M'
  | .inr (r) => OkV M r
theorem pX97_characters_t {M M1 : FM} (e : Ext M M1) : ∀ y, pX97_characters M1 y → pX97_characters M y
  | .inl (_, _, _, _), h => ⟨h.1, ext_tr e h.2⟩
  | .inr (r), h => ⟨h.1, ext_tr e h.2⟩
noncomputable def GX97_characters_0 (a0 : Nat) (a1 : Nat) (M : FM) : (Nat × Nat × Int32 × FM) ⊕ (FM) :=
  (.inl (a0, a1, (Int32.ofInt 0), M))
theorem gX97_characters_0 (k2 : Nat → Nat → Int32 → FM → Option (FM)) (a0 : Nat) (a1 : Nat) (M : FM) (T : Ty M) : gs (FX97_characters_0 fN k2 a0 a1 M) (GX97_characters_0 a0 a1 M) (kX97_characters k2) (pX97_characters M) := by
  delta FX97_characters_0 BX97_characters_0
  exact And.intro rfl (And.intro (And.intro T.1 T.2) ((ext_r _)))
noncomputable def GX97_characters_2 (a0 : Nat) (a1 : Nat) (a2 : Int32) (M : FM) : (Nat × Nat × Int32 × FM) ⊕ (FM) :=
  let r1 : Int32 × FM := GJ1_length a1 M
  fi (r1.1 ≤ a2) (
    let x2 : Int32 := (r1.2.1 418 a0 0)
    let x3 : Nat := (r1.2.2.2 417 a0 0)
    let M4 : FM := fm_sI r1.2 3 x3 x2.toNatClampNeg (Int32.ofInt 0)
    let M5 : FM := fm_sI M4 418 a0 0 ((M4.1 418 a0 0) + (Int32.ofInt 1))
    (.inr M5)) (
    let r6 : Int32 × FM := GJ1_charAt a1 a2 r1.2
    let x7 : Int32 := (r1.2.1 418 a0 0)
    let x8 : Nat := (r1.2.2.2 417 a0 0)
    let M9 : FM := fm_sI r6.2 3 x8 x7.toNatClampNeg r6.1
    let M10 : FM := fm_sI M9 418 a0 0 ((M9.1 418 a0 0) + (Int32.ofInt 1))
    let x11 : Int32 := a2 + (Int32.ofInt 1)
    (.inl (a0, a1, x11, M10)))
def HX97_characters_2 (a0 : Nat) (a1 : Nat) (a2 : Int32) (M : FM) : Prop := let r1 : Int32 × FM := GJ1_length a1 M; ((r1.1 ≤ a2 → let x2 : Int32 := (r1.2.1 418 a0 0); let x3 : Nat := (r1.2.2.2 417 a0 0); (fm_in r1.2 x3 x2 = true ∧ True)) ∧ (¬ (r1.1 ≤ a2) → (HJ1_charAt a1 a2 r1.2 ∧ let r6 : Int32 × FM := GJ1_charAt a1 a2 r1.2; let x7 : Int32 := (r1.2.1 418 a0 0); let x8 : Nat := (r1.2.2.2 417 a0 0); (fm_in r6.2 x8 x7 = true ∧ True))))
theorem gX97_characters_2 (k2 : Nat → Nat → Int32 → FM → Option (FM)) (a0 : Nat) (a1 : Nat) (a2 : Int32) (M : FM) (T : Ty M) (n_a1 : fm_is M 7 7 a1 = true) (n_a0 : fm_is M 100 100 a0 = true) (h : HX97_characters_2 a0 a1 a2 M) : gs (FX97_characters_2 fN k2 a0 a1 a2 M) (GX97_characters_2 a0 a1 a2 M) (kX97_characters k2) (pX97_characters M) := by
  delta FX97_characters_2 BX97_characters_2
  refine gs_c n_a1 ?_
  refine gs_b (gJ1_length _ _ ⟨T.1, T.2⟩ n_a1 ) (fun K0 => ?_)
  refine gs_fi (fun c1_0 => ?_) (fun c1_0 => ?_)
  · have f2 := (ext_is K0.2 (Nat.zero_lt_succ _) n_a0)
    refine gs_c f2 ?_
    have f3 := (ext_is K0.2 (Nat.zero_lt_succ _) n_a0)
    refine gs_c f3 ?_
    have f4 := (tN_417 K0.1.1 (ext_is K0.2 (Nat.zero_lt_succ _) n_a0))
    refine gs_c ⟨f4, (h.1 c1_0).1⟩ ?_
    have f5 := (ext_is K0.2 (Nat.zero_lt_succ _) n_a0)
    refine gs_c f5 ?_
    have f6 := (ext_is K0.2 (Nat.zero_lt_succ _) n_a0)
    refine gs_c f6 ?_
    exact And.intro rfl (And.intro (And.intro K0.1.1 (tyb_sI (f := 418) rfl (tyb_s3 (t := 901) rfl K0.1.2 f4))) ((ext_tr K0.2 (ext_dI (ext_dI (ext_r _))))))
  · have f7 := (ext_is K0.2 (Nat.zero_lt_succ _) n_a0)
    refine gs_c f7 ?_
    have f8 := (ext_is K0.2 (Nat.zero_lt_succ _) n_a0)
    refine gs_c f8 ?_
    have f9 := (ext_is K0.2 (Nat.zero_lt_succ _) n_a1)
    refine gs_c f9 ?_
    have f14 := (ext_is K0.2 (Nat.zero_lt_succ _) n_a1)
    refine gs_b (gJ1_charAt _ _ _ ⟨K0.1.1, K0.1.2⟩ f14 (h.2 c1_0).1) (fun K10 => ?_)
    have f11 := (ext_is K10.2 (Nat.zero_lt_succ _) (tN_417 K0.1.1 (ext_is K0.2 (Nat.zero_lt_succ _) n_a0)))
    refine gs_c ⟨f11, (h.2 c1_0).2.1⟩ ?_
    have f12 := (ext_is K10.2 (Nat.zero_lt_succ _) (ext_is K0.2 (Nat.zero_lt_succ _) n_a0))
    refine gs_c f12 ?_
    have f13 := (ext_is K10.2 (Nat.zero_lt_succ _) (ext_is K0.2 (Nat.zero_lt_succ _) n_a0))
    refine gs_c f13 ?_
    exact And.intro rfl (And.intro (And.intro K10.1.1 (tyb_sI (f := 418) rfl (tyb_s3 (t := 901) rfl K10.1.2 f11))) ((ext_tr K0.2 (ext_tr K10.2 (ext_dI (ext_dI (ext_r _)))))))
noncomputable def GX97_characters (a0 : Nat) (a1 : Nat) (M : FM) : FM := (FX97_characters fN a0 a1 M).getD M
def HX97_characters (a0 : Nat) (a1 : Nat) (M : FM) : Prop := ∃ r, FX97_characters fN a0 a1 M = some r ∧ OkV M r
theorem gX97_characters (a0 : Nat) (a1 : Nat) (M : FM) (h : HX97_characters a0 a1 M) : gd (FX97_characters fN a0 a1 M) (GX97_characters a0 a1 M) (OkV M) := gd_op h
def kX97_fillUp (k0 : Nat → FM → Option (FM)) : (Nat × FM) ⊕ (FM) → Option (FM)
  | .inl (v0, M') => k0 v0 M'
  | .inr (r) => some r
def pX97_fillUp (M : FM) : (Nat × FM) ⊕ (FM) → Prop
  | .inl (_, M') => OkV M M'
  | .inr (r) => OkV M r
theorem pX97_fillUp_t {M M1 : FM} (e : Ext M M1) : ∀ y, pX97_fillUp M1 y → pX97_fillUp M y
  | .inl (_, _), h => ⟨h.1, ext_tr e h.2⟩
  | .inr (r), h => ⟨h.1, ext_tr e h.2⟩
noncomputable def GX97_fillUp_0 (a0 : Nat) (M : FM) : (Nat × FM) ⊕ (FM) :=
  let x1 : Int32 := (M.1 418 a0 0)
  fi ((x1 - x1 / (Int32.ofInt 4) * (Int32.ofInt 4)) = 0) (
    (.inr M)) (
    let x2 : Int32 := (M.1 418 a0 0)
    let x3 : Nat := (M.2.2 417 a0 0)
    let M4 : FM := fm_sI M 3 x3 x2.toNatClampNeg (Int32.ofInt 0)
    let M5 : FM := fm_sI M4 418 a0 0 ((M4.1 418 a0 0) + (Int32.ofInt 1))
    (.inl (a0, M5)))
def HX97_fillUp_0 (a0 : Nat) (M : FM) : Prop := let x1 : Int32 := (M.1 418 a0 0); (((x1 - x1 / (Int32.ofInt 4) * (Int32.ofInt 4)) = 0 → True) ∧ (¬ ((x1 - x1 / (Int32.ofInt 4) * (Int32.ofInt 4)) = 0) → let x2 : Int32 := (M.1 418 a0 0); let x3 : Nat := (M.2.2 417 a0 0); (fm_in M x3 x2 = true ∧ True)))
theorem gX97_fillUp_0 (k0 : Nat → FM → Option (FM)) (a0 : Nat) (M : FM) (T : Ty M) (n_a0 : fm_is M 100 100 a0 = true) (h : HX97_fillUp_0 a0 M) : gs (FX97_fillUp_0 fN k0 a0 M) (GX97_fillUp_0 a0 M) (kX97_fillUp k0) (pX97_fillUp M) := by
  delta FX97_fillUp_0 BX97_fillUp_0
  refine gs_c n_a0 ?_
  refine gs_n (by decide) ?_
  refine gs_fi (fun c0_0 => ?_) (fun c0_0 => ?_)
  · exact And.intro rfl (And.intro (And.intro T.1 T.2) ((ext_r _)))
  · refine gs_c n_a0 ?_
    refine gs_c n_a0 ?_
    have f1 := (tN_417 T.1 n_a0)
    refine gs_c ⟨f1, (h.2 c0_0).1⟩ ?_
    refine gs_c n_a0 ?_
    refine gs_c n_a0 ?_
    exact And.intro rfl (And.intro (And.intro T.1 (tyb_sI (f := 418) rfl (tyb_s3 (t := 901) rfl T.2 f1))) ((ext_dI (ext_dI (ext_r _)))))
noncomputable def GX97_fillUp (a0 : Nat) (M : FM) : FM := (FX97_fillUp fN a0 M).getD M
def HX97_fillUp (a0 : Nat) (M : FM) : Prop := ∃ r, FX97_fillUp fN a0 M = some r ∧ OkV M r
theorem gX97_fillUp (a0 : Nat) (M : FM) (h : HX97_fillUp a0 M) : gd (FX97_fillUp fN a0 M) (GX97_fillUp a0 M) (OkV M) := gd_op h
noncomputable def GX97_node_0 (a0 : Nat) (a1 : Nat) (M : FM) : FM :=
  let M1 : FM := GX97_four a0 (Int64.ofInt 1) M
  let M2 : FM := GX97_characters a0 a1 M1
  let M3 : FM := GX97_fillUp a0 M2
  M3
def HX97_node_0 (a0 : Nat) (a1 : Nat) (M : FM) : Prop := (HX97_four a0 (Int64.ofInt 1) M ∧ let M1 : FM := GX97_four a0 (Int64.ofInt 1) M; (HX97_characters a0 a1 M1 ∧ let M2 : FM := GX97_characters a0 a1 M1; (HX97_fillUp a0 M2 ∧ True)))
theorem gX97_node_0 (a0 : Nat) (a1 : Nat) (M : FM) (T : Ty M) (n_a0 : fm_is M 100 100 a0 = true) (h : HX97_node_0 a0 a1 M) : gd (FX97_node_0 fN a0 a1 M) (GX97_node_0 a0 a1 M) (OkV M) := by
  delta FX97_node_0 BX97_node_0
  refine gd_c n_a0 ?_
  refine gd_b (gX97_four _ _ _ h.1) (fun K0 => ?_)
  have f1 := (ext_is K0.2 (Nat.zero_lt_succ _) n_a0)
  refine gd_c f1 ?_
  refine gd_b (gX97_characters _ _ _ h.2.1) (fun K2 => ?_)
  have f3 := (ext_is K2.2 (Nat.zero_lt_succ _) (ext_is K0.2 (Nat.zero_lt_succ _) n_a0))
  refine gd_c f3 ?_
  refine gd_b (gX97_fillUp _ _ h.2.2.1) (fun K4 => ?_)
  exact ⟨rfl, ⟨K4.1.1, K4.1.2⟩, (ext_tr K0.2 (ext_tr K2.2 K4.2))⟩
noncomputable def GX97_node (a0 : Nat) (a1 : Nat) (M : FM) : FM := GX97_node_0 a0 a1 M
def HX97_node (a0 : Nat) (a1 : Nat) (M : FM) : Prop := HX97_node_0 a0 a1 M
theorem gX97_node (a0 : Nat) (a1 : Nat) (M : FM) (T : Ty M) (n_a0 : fm_is M 100 100 a0 = true) (h : HX97_node a0 a1 M) : gd (FX97_node fN a0 a1 M) (GX97_node a0 a1 M) (OkV M) := gX97_node_0 a0 a1 M T n_a0 h
def kX97_isAt (k36 : Nat → Nat → Int32 → Int32 → Int32 → FM → Option (Int32 × FM)) : (Nat × Nat × Int32 × Int32 × Int32 × FM) ⊕ (Int32 × FM) → Option (Int32 × FM)
  | .inl (v0, v1, v2, v3, v4, M') => k36 v0 v1 v2 v3 v4 M'
  | .inr (r) => some r
def pX97_isAt (M : FM) : (Nat × Nat × Int32 × Int32 × Int32 × FM) ⊕ (Int32 × FM) → Prop
  | .inl (_, _, _, _, _, M') => OkV M M'
  | .inr (r) => OkZ M r
theorem pX97_isAt_t {M M1 : FM} (e : Ext M M1) : ∀ y, pX97_isAt M1 y → pX97_isAt M y
  | .inl (_, _, _, _, _, _), h => ⟨h.1, ext_tr e h.2⟩
  | .inr (r), h => ⟨h.1, ext_tr e h.2.1, h.2.2⟩
noncomputable def GX97_isAt_79 (a3 : Int32) (M : FM) : (Nat × Nat × Int32 × Int32 × Int32 × FM) ⊕ (Int32 × FM) :=
  (.inr (a3, M))
theorem gX97_isAt_79 (k36 : Nat → Nat → Int32 → Int32 → Int32 → FM → Option (Int32 × FM)) (a3 : Int32) (M : FM) (T : Ty M) (z_a3 : a3 = 0 ∨ a3 = 1) : gs (FX97_isAt_79 fN k36 a3 M) (GX97_isAt_79 a3 M) (kX97_isAt k36) (pX97_isAt M) := by
  delta FX97_isAt_79 BX97_isAt_79
  exact gs_z z_a3 ⟨T.1, T.2⟩ (ext_r _) rfl (fun h => h)
noncomputable def GX97_isAt_72 (a0 : Nat) (a1 : Nat) (a2 : Int32) (a4 : Int32) (s0 : Int32) (M : FM) : (Nat × Nat × Int32 × Int32 × Int32 × FM) ⊕ (Int32 × FM) :=
  let x1 : Int32 := a4 + (Int32.ofInt 1)
  (.inl (a0, a1, a2, s0, x1, M))
theorem gX97_isAt_72 (k36 : Nat → Nat → Int32 → Int32 → Int32 → FM → Option (Int32 × FM)) (a0 : Nat) (a1 : Nat) (a2 : Int32) (a4 : Int32) (s0 : Int32) (M : FM) (T : Ty M) : gs (FX97_isAt_72 fN k36 a0 a1 a2 a4 s0 M) (GX97_isAt_72 a0 a1 a2 a4 s0 M) (kX97_isAt k36) (pX97_isAt M) := by
  delta FX97_isAt_72 BX97_isAt_72
  exact And.intro rfl (And.intro (And.intro T.1 T.2) ((ext_r _)))
noncomputable def GX97_isAt_32 (a0 : Nat) (a1 : Nat) (a2 : Int32) (s0 : Int32) (M : FM) : (Nat × Nat × Int32 × Int32 × Int32 × FM) ⊕ (Int32 × FM) :=
  (.inl (a0, a1, a2, s0, (Int32.ofInt 0), M))
theorem gX97_isAt_32 (k36 : Nat → Nat → Int32 → Int32 → Int32 → FM → Option (Int32 × FM)) (a0 : Nat) (a1 : Nat) (a2 : Int32) (s0 : Int32) (M : FM) (T : Ty M) : gs (FX97_isAt_32 fN k36 a0 a1 a2 s0 M) (GX97_isAt_32 a0 a1 a2 s0 M) (kX97_isAt k36) (pX97_isAt M) := by
  delta FX97_isAt_32 BX97_isAt_32
  exact And.intro rfl (And.intro (And.intro T.1 T.2) ((ext_r _)))
noncomputable def GX97_isAt_31 (a0 : Nat) (a1 : Nat) (a2 : Int32) (M : FM) : (Nat × Nat × Int32 × Int32 × Int32 × FM) ⊕ (Int32 × FM) :=
  GX97_isAt_32 a0 a1 a2 (Int32.ofInt 0) M
theorem gX97_isAt_31 (k36 : Nat → Nat → Int32 → Int32 → Int32 → FM → Option (Int32 × FM)) (a0 : Nat) (a1 : Nat) (a2 : Int32) (M : FM) (T : Ty M) : gs (FX97_isAt_31 fN k36 a0 a1 a2 M) (GX97_isAt_31 a0 a1 a2 M) (kX97_isAt k36) (pX97_isAt M) := by
  delta FX97_isAt_31 BX97_isAt_31
  exact gs_t (pX97_isAt_t (ext_r _)) (gX97_isAt_32 k36 _ _ _ _ _ ⟨T.1, T.2⟩  )
noncomputable def GX97_isAt_0 (a0 : Nat) (a1 : Nat) (a2 : Int32) (M : FM) : (Nat × Nat × Int32 × Int32 × Int32 × FM) ⊕ (Int32 × FM) :=
  let r1 : Int32 × FM := GJ1_length a1 M
  fi ((r1.2.1 420 a0 0) ≤ (a2 + r1.1)) (
    GX97_isAt_31 a0 a1 a2 r1.2) (
    let r2 : Int32 × FM := GJ1_length a1 r1.2
    let x3 : Int32 := (a2 + r2.1)
    let x4 : Nat := (r1.2.2.2 419 a0 0)
    fi ((r2.2.1 3 x4 x3.toNatClampNeg) = 0) (
      GX97_isAt_32 a0 a1 a2 (Int32.ofInt 1) r2.2) (
      GX97_isAt_31 a0 a1 a2 r2.2))
def HX97_isAt_0 (a0 : Nat) (a1 : Nat) (a2 : Int32) (M : FM) : Prop := let r1 : Int32 × FM := GJ1_length a1 M; (((r1.2.1 420 a0 0) ≤ (a2 + r1.1) → True) ∧ (¬ ((r1.2.1 420 a0 0) ≤ (a2 + r1.1)) → let r2 : Int32 × FM := GJ1_length a1 r1.2; let x3 : Int32 := (a2 + r2.1); let x4 : Nat := (r1.2.2.2 419 a0 0); (fm_in r2.2 x4 x3 = true ∧ True)))
theorem gX97_isAt_0 (k36 : Nat → Nat → Int32 → Int32 → Int32 → FM → Option (Int32 × FM)) (a0 : Nat) (a1 : Nat) (a2 : Int32) (M : FM) (T : Ty M) (n_a1 : fm_is M 7 7 a1 = true) (n_a0 : fm_is M 100 100 a0 = true) (h : HX97_isAt_0 a0 a1 a2 M) : gs (FX97_isAt_0 fN k36 a0 a1 a2 M) (GX97_isAt_0 a0 a1 a2 M) (kX97_isAt k36) (pX97_isAt M) := by
  delta FX97_isAt_0 BX97_isAt_0
  refine gs_c n_a1 ?_
  refine gs_b (gJ1_length _ _ ⟨T.1, T.2⟩ n_a1 ) (fun K0 => ?_)
  have f1 := (ext_is K0.2 (Nat.zero_lt_succ _) n_a0)
  refine gs_c f1 ?_
  refine gs_fi (fun c2_0 => ?_) (fun c2_0 => ?_)
  · exact gs_t (pX97_isAt_t K0.2) (gX97_isAt_31 k36 _ _ _ _ ⟨K0.1.1, K0.1.2⟩  )
  · have f3 := (ext_is K0.2 (Nat.zero_lt_succ _) n_a0)
    refine gs_c f3 ?_
    have f4 := (ext_is K0.2 (Nat.zero_lt_succ _) n_a1)
    refine gs_c f4 ?_
    have f8 := (ext_is K0.2 (Nat.zero_lt_succ _) n_a1)
    refine gs_b (gJ1_length _ _ ⟨K0.1.1, K0.1.2⟩ f8 ) (fun K5 => ?_)
    have f7 := (ext_is K5.2 (Nat.zero_lt_succ _) (tN_419 K0.1.1 (ext_is K0.2 (Nat.zero_lt_succ _) n_a0)))
    refine gs_c ⟨f7, (h.2 c2_0).1⟩ ?_
    refine gs_fi (fun c6_0 => ?_) (fun c6_0 => ?_)
    · exact gs_t (pX97_isAt_t (ext_tr K0.2 K5.2)) (gX97_isAt_32 k36 _ _ _ _ _ ⟨K5.1.1, K5.1.2⟩  )
    · exact gs_t (pX97_isAt_t (ext_tr K0.2 K5.2)) (gX97_isAt_31 k36 _ _ _ _ ⟨K5.1.1, K5.1.2⟩  )
noncomputable def GX97_isAt_36 (a0 : Nat) (a1 : Nat) (a2 : Int32) (a3 : Int32) (a4 : Int32) (M : FM) : (Nat × Nat × Int32 × Int32 × Int32 × FM) ⊕ (Int32 × FM) :=
  let r1 : Int32 × FM := GJ1_length a1 M
  fi (r1.1 ≤ a4) (
    GX97_isAt_79 a3 r1.2) (
    fi (a3 = 0) (
      GX97_isAt_79 a3 r1.2) (
      let x2 : Int32 := (a2 + a4)
      let x3 : Nat := (r1.2.2.2 419 a0 0)
      let r4 : Int32 × FM := GJ1_charAt a1 a4 r1.2
      fi ((r1.2.1 3 x3 x2.toNatClampNeg) = r4.1) (
        GX97_isAt_72 a0 a1 a2 a4 (Int32.ofInt 1) r4.2) (
        GX97_isAt_72 a0 a1 a2 a4 (Int32.ofInt 0) r4.2)))
def HX97_isAt_36 (a0 : Nat) (a1 : Nat) (a2 : Int32) (a3 : Int32) (a4 : Int32) (M : FM) : Prop := let r1 : Int32 × FM := GJ1_length a1 M; ((r1.1 ≤ a4 → True) ∧ (¬ (r1.1 ≤ a4) → ((a3 = 0 → True) ∧ (¬ (a3 = 0) → let x2 : Int32 := (a2 + a4); let x3 : Nat := (r1.2.2.2 419 a0 0); (fm_in r1.2 x3 x2 = true ∧ (HJ1_charAt a1 a4 r1.2 ∧ True))))))
theorem gX97_isAt_36 (k36 : Nat → Nat → Int32 → Int32 → Int32 → FM → Option (Int32 × FM)) (a0 : Nat) (a1 : Nat) (a2 : Int32) (a3 : Int32) (a4 : Int32) (M : FM) (T : Ty M) (n_a1 : fm_is M 7 7 a1 = true) (z_a3 : a3 = 0 ∨ a3 = 1) (n_a0 : fm_is M 100 100 a0 = true) (h : HX97_isAt_36 a0 a1 a2 a3 a4 M) : gs (FX97_isAt_36 fN k36 a0 a1 a2 a3 a4 M) (GX97_isAt_36 a0 a1 a2 a3 a4 M) (kX97_isAt k36) (pX97_isAt M) := by
  delta FX97_isAt_36 BX97_isAt_36
  refine gs_c n_a1 ?_
  refine gs_b (gJ1_length _ _ ⟨T.1, T.2⟩ n_a1 ) (fun K0 => ?_)
  refine gs_fi (fun c1_0 => ?_) (fun c1_0 => ?_)
  · exact gs_t (pX97_isAt_t K0.2) (gX97_isAt_79 k36 _ _ ⟨K0.1.1, K0.1.2⟩ z_a3 )
  · refine gs_fi (fun c2_0 => ?_) (fun c2_0 => ?_)
    · exact gs_t (pX97_isAt_t K0.2) (gX97_isAt_79 k36 _ _ ⟨K0.1.1, K0.1.2⟩ z_a3 )
    · have f3 := (ext_is K0.2 (Nat.zero_lt_succ _) n_a0)
      refine gs_c f3 ?_
      have f8 := (tN_419 K0.1.1 (ext_is K0.2 (Nat.zero_lt_succ _) n_a0))
      have f9 := ((h.2 c1_0).2 c2_0).1
      refine gs_c ⟨f8, f9⟩ ?_
      have f4 := (ext_is K0.2 (Nat.zero_lt_succ _) n_a1)
      refine gs_c f4 ?_
      have f7 := (ext_is K0.2 (Nat.zero_lt_succ _) n_a1)
      refine gs_b (gJ1_charAt _ _ _ ⟨K0.1.1, K0.1.2⟩ f7 ((h.2 c1_0).2 c2_0).2.1) (fun K5 => ?_)
      refine gs_fi (fun c6_0 => ?_) (fun c6_0 => ?_)
      · exact gs_t (pX97_isAt_t (ext_tr K0.2 K5.2)) (gX97_isAt_72 k36 _ _ _ _ _ _ ⟨K5.1.1, K5.1.2⟩  )
      · exact gs_t (pX97_isAt_t (ext_tr K0.2 K5.2)) (gX97_isAt_72 k36 _ _ _ _ _ _ ⟨K5.1.1, K5.1.2⟩  )
noncomputable def GX97_isAt (a0 : Nat) (a1 : Nat) (a2 : Int32) (M : FM) : Int32 × FM := (FX97_isAt fN a0 a1 a2 M).getD (0, M)
def HX97_isAt (a0 : Nat) (a1 : Nat) (a2 : Int32) (M : FM) : Prop := ∃ r, FX97_isAt fN a0 a1 a2 M = some r ∧ OkZ M r
theorem gX97_isAt (a0 : Nat) (a1 : Nat) (a2 : Int32) (M : FM) (h : HX97_isAt a0 a1 a2 M) : gd (FX97_isAt fN a0 a1 a2 M) (GX97_isAt a0 a1 a2 M) (OkZ M) := gd_op h
def kX97_placeOf (k2 : Nat → Nat → Int32 → FM → Option (Int32 × FM)) (k19 : Nat → Nat → Int32 → FM → Option (Int32 × FM)) (k50 : Nat → Nat → Int32 → Int32 → FM → Option (Int32 × FM)) : (Nat × Nat × Int32 × FM) ⊕ (Nat × Nat × Int32 × FM) ⊕ (Nat × Nat × Int32 × Int32 × FM) ⊕ (Int32 × FM) → Option (Int32 × FM)
  | .inl (v0, v1, v2, M') => k2 v0 v1 v2 M'
  | .inr (.inl (v0, v1, v2, M')) => k19 v0 v1 v2 M'
  | .inr (.inr (.inl (v0, v1, v2, v3, M'))) => k50 v0 v1 v2 v3 M'
  | .inr (.inr (.inr (r))) => some r
def pX97_placeOf (M : FM) : (Nat × Nat × Int32 × FM) ⊕ (Nat × Nat × Int32 × FM) ⊕ (Nat × Nat × Int32 × Int32 × FM) ⊕ (Int32 × FM) → Prop
  | .inl (_, _, _, M') => OkV M M'
  | .inr (.inl (_, _, _, M')) => OkV M M'
  | .inr (.inr (.inl (_, _, _, _, M'))) => OkV M M'
  | .inr (.inr (.inr (r))) => OkR M r
theorem pX97_placeOf_t {M M1 : FM} (e : Ext M M1) : ∀ y, pX97_placeOf M1 y → pX97_placeOf M y
  | .inl (_, _, _, _), h => ⟨h.1, ext_tr e h.2⟩
  | .inr (.inl (_, _, _, _)), h => ⟨h.1, ext_tr e h.2⟩
  | .inr (.inr (.inl (_, _, _, _, _))), h => ⟨h.1, ext_tr e h.2⟩
  | .inr (.inr (.inr (r))), h => ⟨h.1, ext_tr e h.2⟩
noncomputable def GX97_placeOf_108 (a2 : Int32) (M : FM) : (Nat × Nat × Int32 × FM) ⊕ (Nat × Nat × Int32 × FM) ⊕ (Nat × Nat × Int32 × Int32 × FM) ⊕ (Int32 × FM) :=
  (.inr (.inr (.inr (a2, M))))
theorem gX97_placeOf_108 (k2 : Nat → Nat → Int32 → FM → Option (Int32 × FM)) (k19 : Nat → Nat → Int32 → FM → Option (Int32 × FM)) (k50 : Nat → Nat → Int32 → Int32 → FM → Option (Int32 × FM)) (a2 : Int32) (M : FM) (T : Ty M) : gs (FX97_placeOf_108 fN k2 k19 k50 a2 M) (GX97_placeOf_108 a2 M) (kX97_placeOf k2 k19 k50) (pX97_placeOf M) := by
  delta FX97_placeOf_108 BX97_placeOf_108
  exact And.intro rfl (And.intro (And.intro T.1 T.2) ((ext_r _)))
noncomputable def GX97_placeOf_40 (a0 : Nat) (a1 : Nat) (a2 : Int32) (M : FM) : (Nat × Nat × Int32 × FM) ⊕ (Nat × Nat × Int32 × FM) ⊕ (Nat × Nat × Int32 × Int32 × FM) ⊕ (Int32 × FM) :=
  fi (a2 = (M.1 420 a0 0)) (
    (.inr (.inr (.inl (a0, a1, a2, (Int32.ofInt 0), M))))) (
    GX97_placeOf_108 a2 M)
theorem gX97_placeOf_40 (k2 : Nat → Nat → Int32 → FM → Option (Int32 × FM)) (k19 : Nat → Nat → Int32 → FM → Option (Int32 × FM)) (k50 : Nat → Nat → Int32 → Int32 → FM → Option (Int32 × FM)) (a0 : Nat) (a1 : Nat) (a2 : Int32) (M : FM) (T : Ty M) (n_a0 : fm_is M 100 100 a0 = true) : gs (FX97_placeOf_40 fN k2 k19 k50 a0 a1 a2 M) (GX97_placeOf_40 a0 a1 a2 M) (kX97_placeOf k2 k19 k50) (pX97_placeOf M) := by
  delta FX97_placeOf_40 BX97_placeOf_40
  refine gs_c n_a0 ?_
  refine gs_fi (fun c0_0 => ?_) (fun c0_0 => ?_)
  · exact And.intro rfl (And.intro (And.intro T.1 T.2) ((ext_r _)))
  · exact gs_t (pX97_placeOf_t (ext_r _)) (gX97_placeOf_108 k2 k19 k50 _ _ ⟨T.1, T.2⟩  )
noncomputable def GX97_placeOf_0 (a0 : Nat) (a1 : Nat) (M : FM) : (Nat × Nat × Int32 × FM) ⊕ (Nat × Nat × Int32 × FM) ⊕ (Nat × Nat × Int32 × Int32 × FM) ⊕ (Int32 × FM) :=
  (.inl (a0, a1, (Int32.ofInt 0), M))
theorem gX97_placeOf_0 (k2 : Nat → Nat → Int32 → FM → Option (Int32 × FM)) (k19 : Nat → Nat → Int32 → FM → Option (Int32 × FM)) (k50 : Nat → Nat → Int32 → Int32 → FM → Option (Int32 × FM)) (a0 : Nat) (a1 : Nat) (M : FM) (T : Ty M) : gs (FX97_placeOf_0 fN k2 k19 k50 a0 a1 M) (GX97_placeOf_0 a0 a1 M) (kX97_placeOf k2 k19 k50) (pX97_placeOf M) := by
  delta FX97_placeOf_0 BX97_placeOf_0
  exact And.intro rfl (And.intro (And.intro T.1 T.2) ((ext_r _)))
noncomputable def GX97_placeOf_50 (a0 : Nat) (a1 : Nat) (a2 : Int32) (a3 : Int32) (M : FM) : (Nat × Nat × Int32 × FM) ⊕ (Nat × Nat × Int32 × FM) ⊕ (Nat × Nat × Int32 × Int32 × FM) ⊕ (Int32 × FM) :=
  let r1 : Int32 × FM := GJ1_length a1 M
  fi (r1.1 ≤ a3) (
    let x2 : Int32 := (r1.2.1 420 a0 0)
    let x3 : Nat := (r1.2.2.2 419 a0 0)
    let M4 : FM := fm_sI r1.2 3 x3 x2.toNatClampNeg (Int32.ofInt 0)
    let M5 : FM := fm_sI M4 420 a0 0 ((M4.1 420 a0 0) + (Int32.ofInt 1))
    GX97_placeOf_108 a2 M5) (
    let r6 : Int32 × FM := GJ1_charAt a1 a3 r1.2
    let x7 : Int32 := (r1.2.1 420 a0 0)
    let x8 : Nat := (r1.2.2.2 419 a0 0)
    let M9 : FM := fm_sI r6.2 3 x8 x7.toNatClampNeg r6.1
    let M10 : FM := fm_sI M9 420 a0 0 ((M9.1 420 a0 0) + (Int32.ofInt 1))
    let x11 : Int32 := a3 + (Int32.ofInt 1)
    (.inr (.inr (.inl (a0, a1, a2, x11, M10)))))
def HX97_placeOf_50 (a0 : Nat) (a1 : Nat) (a2 : Int32) (a3 : Int32) (M : FM) : Prop := let r1 : Int32 × FM := GJ1_length a1 M; ((r1.1 ≤ a3 → let x2 : Int32 := (r1.2.1 420 a0 0); let x3 : Nat := (r1.2.2.2 419 a0 0); (fm_in r1.2 x3 x2 = true ∧ True)) ∧ (¬ (r1.1 ≤ a3) → (HJ1_charAt a1 a3 r1.2 ∧ let r6 : Int32 × FM := GJ1_charAt a1 a3 r1.2; let x7 : Int32 := (r1.2.1 420 a0 0); let x8 : Nat := (r1.2.2.2 419 a0 0); (fm_in r6.2 x8 x7 = true ∧ True))))
theorem gX97_placeOf_50 (k2 : Nat → Nat → Int32 → FM → Option (Int32 × FM)) (k19 : Nat → Nat → Int32 → FM → Option (Int32 × FM)) (k50 : Nat → Nat → Int32 → Int32 → FM → Option (Int32 × FM)) (a0 : Nat) (a1 : Nat) (a2 : Int32) (a3 : Int32) (M : FM) (T : Ty M) (n_a1 : fm_is M 7 7 a1 = true) (n_a0 : fm_is M 100 100 a0 = true) (h : HX97_placeOf_50 a0 a1 a2 a3 M) : gs (FX97_placeOf_50 fN k2 k19 k50 a0 a1 a2 a3 M) (GX97_placeOf_50 a0 a1 a2 a3 M) (kX97_placeOf k2 k19 k50) (pX97_placeOf M) := by
  delta FX97_placeOf_50 BX97_placeOf_50
  refine gs_c n_a1 ?_
  refine gs_b (gJ1_length _ _ ⟨T.1, T.2⟩ n_a1 ) (fun K0 => ?_)
  refine gs_fi (fun c1_0 => ?_) (fun c1_0 => ?_)
  · have f2 := (ext_is K0.2 (Nat.zero_lt_succ _) n_a0)
    refine gs_c f2 ?_
    have f3 := (ext_is K0.2 (Nat.zero_lt_succ _) n_a0)
    refine gs_c f3 ?_
    have f4 := (tN_419 K0.1.1 (ext_is K0.2 (Nat.zero_lt_succ _) n_a0))
    refine gs_c ⟨f4, (h.1 c1_0).1⟩ ?_
    have f5 := (ext_is K0.2 (Nat.zero_lt_succ _) n_a0)
    refine gs_c f5 ?_
    have f6 := (ext_is K0.2 (Nat.zero_lt_succ _) n_a0)
    refine gs_c f6 ?_
    exact gs_t (pX97_placeOf_t (ext_tr K0.2 (ext_dI (ext_dI (ext_r _))))) (gX97_placeOf_108 k2 k19 k50 _ _ ⟨K0.1.1, (tyb_sI (f := 420) rfl (tyb_s3 (t := 901) rfl K0.1.2 f4))⟩  )
  · have f7 := (ext_is K0.2 (Nat.zero_lt_succ _) n_a0)
    refine gs_c f7 ?_
    have f8 := (ext_is K0.2 (Nat.zero_lt_succ _) n_a0)
    refine gs_c f8 ?_
    have f9 := (ext_is K0.2 (Nat.zero_lt_succ _) n_a1)
    refine gs_c f9 ?_
    have f14 := (ext_is K0.2 (Nat.zero_lt_succ _) n_a1)
    refine gs_b (gJ1_charAt _ _ _ ⟨K0.1.1, K0.1.2⟩ f14 (h.2 c1_0).1) (fun K10 => ?_)
    have f11 := (ext_is K10.2 (Nat.zero_lt_succ _) (tN_419 K0.1.1 (ext_is K0.2 (Nat.zero_lt_succ _) n_a0)))
    refine gs_c ⟨f11, (h.2 c1_0).2.1⟩ ?_
    have f12 := (ext_is K10.2 (Nat.zero_lt_succ _) (ext_is K0.2 (Nat.zero_lt_succ _) n_a0))
    refine gs_c f12 ?_
    have f13 := (ext_is K10.2 (Nat.zero_lt_succ _) (ext_is K0.2 (Nat.zero_lt_succ _) n_a0))
    refine gs_c f13 ?_
    exact And.intro rfl (And.intro (And.intro K10.1.1 (tyb_sI (f := 420) rfl (tyb_s3 (t := 901) rfl K10.1.2 f11))) ((ext_tr K0.2 (ext_tr K10.2 (ext_dI (ext_dI (ext_r _)))))))
noncomputable def GX97_placeOf_19 (a0 : Nat) (a1 : Nat) (a2 : Int32) (M : FM) : (Nat × Nat × Int32 × FM) ⊕ (Nat × Nat × Int32 × FM) ⊕ (Nat × Nat × Int32 × Int32 × FM) ⊕ (Int32 × FM) :=
  let x1 : Nat := (M.2.2 419 a0 0)
  fi ((M.1 3 x1 a2.toNatClampNeg) = 0) (
    let x2 : Int32 := a2 + (Int32.ofInt 1)
    (.inl (a0, a1, x2, M))) (
    let x3 : Int32 := a2 + (Int32.ofInt 1)
    (.inr (.inl (a0, a1, x3, M))))
def HX97_placeOf_19 (a0 : Nat) (a1 : Nat) (a2 : Int32) (M : FM) : Prop := let x1 : Nat := (M.2.2 419 a0 0); (fm_in M x1 a2 = true ∧ True)
theorem gX97_placeOf_19 (k2 : Nat → Nat → Int32 → FM → Option (Int32 × FM)) (k19 : Nat → Nat → Int32 → FM → Option (Int32 × FM)) (k50 : Nat → Nat → Int32 → Int32 → FM → Option (Int32 × FM)) (a0 : Nat) (a1 : Nat) (a2 : Int32) (M : FM) (T : Ty M) (n_a0 : fm_is M 100 100 a0 = true) (h : HX97_placeOf_19 a0 a1 a2 M) : gs (FX97_placeOf_19 fN k2 k19 k50 a0 a1 a2 M) (GX97_placeOf_19 a0 a1 a2 M) (kX97_placeOf k2 k19 k50) (pX97_placeOf M) := by
  delta FX97_placeOf_19 BX97_placeOf_19
  refine gs_c n_a0 ?_
  have f1 := (tN_419 T.1 n_a0)
  refine gs_c ⟨f1, h.1⟩ ?_
  refine gs_fi (fun c0_0 => ?_) (fun c0_0 => ?_)
  · exact And.intro rfl (And.intro (And.intro T.1 T.2) ((ext_r _)))
  · exact And.intro rfl (And.intro (And.intro T.1 T.2) ((ext_r _)))
noncomputable def GX97_placeOf_2 (a0 : Nat) (a1 : Nat) (a2 : Int32) (M : FM) : (Nat × Nat × Int32 × FM) ⊕ (Nat × Nat × Int32 × FM) ⊕ (Nat × Nat × Int32 × Int32 × FM) ⊕ (Int32 × FM) :=
  fi ((M.1 420 a0 0) ≤ a2) (
    GX97_placeOf_40 a0 a1 a2 M) (
    let r1 : Int32 × FM := GX97_isAt a0 a1 a2 M
    fi (r1.1 = 0) (
      (.inr (.inl (a0, a1, a2, r1.2)))) (
      GX97_placeOf_40 a0 a1 a2 r1.2))
def HX97_placeOf_2 (a0 : Nat) (a1 : Nat) (a2 : Int32) (M : FM) : Prop := (((M.1 420 a0 0) ≤ a2 → True) ∧ (¬ ((M.1 420 a0 0) ≤ a2) → (HX97_isAt a0 a1 a2 M ∧ True)))
theorem gX97_placeOf_2 (k2 : Nat → Nat → Int32 → FM → Option (Int32 × FM)) (k19 : Nat → Nat → Int32 → FM → Option (Int32 × FM)) (k50 : Nat → Nat → Int32 → Int32 → FM → Option (Int32 × FM)) (a0 : Nat) (a1 : Nat) (a2 : Int32) (M : FM) (T : Ty M) (n_a0 : fm_is M 100 100 a0 = true) (h : HX97_placeOf_2 a0 a1 a2 M) : gs (FX97_placeOf_2 fN k2 k19 k50 a0 a1 a2 M) (GX97_placeOf_2 a0 a1 a2 M) (kX97_placeOf k2 k19 k50) (pX97_placeOf M) := by
  delta FX97_placeOf_2 BX97_placeOf_2
  refine gs_c n_a0 ?_
  refine gs_fi (fun c0_0 => ?_) (fun c0_0 => ?_)
  · exact gs_t (pX97_placeOf_t (ext_r _)) (gX97_placeOf_40 k2 k19 k50 _ _ _ _ ⟨T.1, T.2⟩ n_a0 )
  · refine gs_c n_a0 ?_
    refine gs_b (gX97_isAt _ _ _ _ (h.2 c0_0).1) (fun K1 => ?_)
    refine gs_fi (fun c2_0 => ?_) (fun c2_0 => ?_)
    · exact And.intro rfl (And.intro (And.intro K1.1.1 K1.1.2) K1.2.1)
    · have f3 := (ext_is K1.2.1 (Nat.zero_lt_succ _) n_a0)
      exact gs_t (pX97_placeOf_t K1.2.1) (gX97_placeOf_40 k2 k19 k50 _ _ _ _ ⟨K1.1.1, K1.1.2⟩ f3 )
noncomputable def GX97_placeOf (a0 : Nat) (a1 : Nat) (M : FM) : Int32 × FM := (FX97_placeOf fN a0 a1 M).getD (0, M)
def HX97_placeOf (a0 : Nat) (a1 : Nat) (M : FM) : Prop := ∃ r, FX97_placeOf fN a0 a1 M = some r ∧ OkR M r
theorem gX97_placeOf (a0 : Nat) (a1 : Nat) (M : FM) (h : HX97_placeOf a0 a1 M) : gd (FX97_placeOf fN a0 a1 M) (GX97_placeOf a0 a1 M) (OkR M) := gd_op h
noncomputable def GX97_open_0 (a0 : Nat) (a1 : Nat) (M : FM) : FM :=
  let M1 : FM := GX97_four a0 (Int64.ofInt 3) M
  let M2 : FM := fm_sI M1 421 a0 0 (M1.1 418 a0 0)
  let M3 : FM := GX97_four a0 (Int64.ofInt 0) M2
  let r4 : Int32 × FM := GX97_placeOf a0 a1 M3
  let M5 : FM := GX97_four a0 r4.1.toInt64 r4.2
  M5
def HX97_open_0 (a0 : Nat) (a1 : Nat) (M : FM) : Prop := (HX97_four a0 (Int64.ofInt 3) M ∧ let M1 : FM := GX97_four a0 (Int64.ofInt 3) M; let M2 : FM := fm_sI M1 421 a0 0 (M1.1 418 a0 0); (HX97_four a0 (Int64.ofInt 0) M2 ∧ let M3 : FM := GX97_four a0 (Int64.ofInt 0) M2; (HX97_placeOf a0 a1 M3 ∧ let r4 : Int32 × FM := GX97_placeOf a0 a1 M3; (HX97_four a0 r4.1.toInt64 r4.2 ∧ True))))
theorem gX97_open_0 (a0 : Nat) (a1 : Nat) (M : FM) (T : Ty M) (n_a0 : fm_is M 100 100 a0 = true) (h : HX97_open_0 a0 a1 M) : gd (FX97_open_0 fN a0 a1 M) (GX97_open_0 a0 a1 M) (OkV M) := by
  delta FX97_open_0 BX97_open_0
  refine gd_c n_a0 ?_
  refine gd_b (gX97_four _ _ _ h.1) (fun K0 => ?_)
  have f1 := (ext_is K0.2 (Nat.zero_lt_succ _) n_a0)
  refine gd_c f1 ?_
  have f2 := (ext_is K0.2 (Nat.zero_lt_succ _) n_a0)
  refine gd_c f2 ?_
  have f3 := (ext_is K0.2 (Nat.zero_lt_succ _) n_a0)
  refine gd_c f3 ?_
  refine gd_b (gX97_four _ _ _ h.2.1) (fun K4 => ?_)
  have f5 := (ext_is K4.2 (Nat.zero_lt_succ _) (ext_is K0.2 (Nat.zero_lt_succ _) n_a0))
  refine gd_c f5 ?_
  refine gd_b (gX97_placeOf _ _ _ h.2.2.1) (fun K6 => ?_)
  have f7 := (ext_is K6.2 (Nat.zero_lt_succ _) (ext_is K4.2 (Nat.zero_lt_succ _) (ext_is K0.2 (Nat.zero_lt_succ _) n_a0)))
  refine gd_c f7 ?_
  refine gd_b (gX97_four _ _ _ h.2.2.2.1) (fun K8 => ?_)
  exact ⟨rfl, ⟨K8.1.1, K8.1.2⟩, (ext_tr K0.2 (ext_dI (ext_tr K4.2 (ext_tr K6.2 K8.2))))⟩
noncomputable def GX97_open (a0 : Nat) (a1 : Nat) (M : FM) : FM := GX97_open_0 a0 a1 M
def HX97_open (a0 : Nat) (a1 : Nat) (M : FM) : Prop := HX97_open_0 a0 a1 M
theorem gX97_open (a0 : Nat) (a1 : Nat) (M : FM) (T : Ty M) (n_a0 : fm_is M 100 100 a0 = true) (h : HX97_open a0 a1 M) : gd (FX97_open fN a0 a1 M) (GX97_open a0 a1 M) (OkV M) := gX97_open_0 a0 a1 M T n_a0 h
noncomputable def GX97_close_0 (a0 : Nat) (M : FM) : FM :=
  let x1 : Int32 := (M.1 418 a0 0)
  let M2 : FM := fm_sI M 418 a0 0 (M.1 421 a0 0)
  let M3 : FM := GX97_four a0 (((x1 - (M2.1 421 a0 0)) - (Int32.ofInt 8)).toInt64) M2
  let M4 : FM := fm_sI M3 418 a0 0 x1
  let M5 : FM := GX97_fillUp a0 M4
  M5
def HX97_close_0 (a0 : Nat) (M : FM) : Prop := let x1 : Int32 := (M.1 418 a0 0); let M2 : FM := fm_sI M 418 a0 0 (M.1 421 a0 0); (HX97_four a0 (((x1 - (M2.1 421 a0 0)) - (Int32.ofInt 8)).toInt64) M2 ∧ let M3 : FM := GX97_four a0 (((x1 - (M2.1 421 a0 0)) - (Int32.ofInt 8)).toInt64) M2; let M4 : FM := fm_sI M3 418 a0 0 x1; (HX97_fillUp a0 M4 ∧ True))
theorem gX97_close_0 (a0 : Nat) (M : FM) (T : Ty M) (n_a0 : fm_is M 100 100 a0 = true) (h : HX97_close_0 a0 M) : gd (FX97_close_0 fN a0 M) (GX97_close_0 a0 M) (OkV M) := by
  delta FX97_close_0 BX97_close_0
  refine gd_c n_a0 ?_
  refine gd_c n_a0 ?_
  refine gd_c n_a0 ?_
  refine gd_c n_a0 ?_
  refine gd_c n_a0 ?_
  refine gd_b (gX97_four _ _ _ h.1) (fun K0 => ?_)
  have f1 := (ext_is K0.2 (Nat.zero_lt_succ _) n_a0)
  refine gd_c f1 ?_
  have f2 := (ext_is K0.2 (Nat.zero_lt_succ _) n_a0)
  refine gd_c f2 ?_
  refine gd_b (gX97_fillUp _ _ h.2.1) (fun K3 => ?_)
  exact ⟨rfl, ⟨K3.1.1, K3.1.2⟩, (ext_dI (ext_tr K0.2 (ext_dI K3.2)))⟩
noncomputable def GX97_close (a0 : Nat) (M : FM) : FM := GX97_close_0 a0 M
def HX97_close (a0 : Nat) (M : FM) : Prop := HX97_close_0 a0 M
theorem gX97_close (a0 : Nat) (M : FM) (T : Ty M) (n_a0 : fm_is M 100 100 a0 = true) (h : HX97_close a0 M) : gd (FX97_close fN a0 M) (GX97_close a0 M) (OkV M) := gX97_close_0 a0 M T n_a0 h
noncomputable def GX97_number_0 (a0 : Nat) (a1 : Nat) (a2 : Int64) (M : FM) : FM :=
  let M1 : FM := GX97_open a0 a1 M
  let M2 : FM := GX97_four a0 a2 M1
  let M3 : FM := GX97_close a0 M2
  M3
def HX97_number_0 (a0 : Nat) (a1 : Nat) (a2 : Int64) (M : FM) : Prop := (HX97_open a0 a1 M ∧ let M1 : FM := GX97_open a0 a1 M; (HX97_four a0 a2 M1 ∧ let M2 : FM := GX97_four a0 a2 M1; (HX97_close a0 M2 ∧ True)))
theorem gX97_number_0 (a0 : Nat) (a1 : Nat) (a2 : Int64) (M : FM) (T : Ty M) (n_a0 : fm_is M 100 100 a0 = true) (h : HX97_number_0 a0 a1 a2 M) : gd (FX97_number_0 fN a0 a1 a2 M) (GX97_number_0 a0 a1 a2 M) (OkV M) := by
  delta FX97_number_0 BX97_number_0
  refine gd_c n_a0 ?_
  refine gd_b (gX97_open _ _ _ ⟨T.1, T.2⟩ n_a0 h.1) (fun K0 => ?_)
  have f1 := (ext_is K0.2 (Nat.zero_lt_succ _) n_a0)
  refine gd_c f1 ?_
  refine gd_b (gX97_four _ _ _ h.2.1) (fun K2 => ?_)
  have f3 := (ext_is K2.2 (Nat.zero_lt_succ _) (ext_is K0.2 (Nat.zero_lt_succ _) n_a0))
  refine gd_c f3 ?_
  have f5 := (ext_is K2.2 (Nat.zero_lt_succ _) (ext_is K0.2 (Nat.zero_lt_succ _) n_a0))
  refine gd_b (gX97_close _ _ ⟨K2.1.1, K2.1.2⟩ f5 h.2.2.1) (fun K4 => ?_)
  exact ⟨rfl, ⟨K4.1.1, K4.1.2⟩, (ext_tr K0.2 (ext_tr K2.2 K4.2))⟩
noncomputable def GX97_number (a0 : Nat) (a1 : Nat) (a2 : Int64) (M : FM) : FM := GX97_number_0 a0 a1 a2 M
def HX97_number (a0 : Nat) (a1 : Nat) (a2 : Int64) (M : FM) : Prop := HX97_number_0 a0 a1 a2 M
theorem gX97_number (a0 : Nat) (a1 : Nat) (a2 : Int64) (M : FM) (T : Ty M) (n_a0 : fm_is M 100 100 a0 = true) (h : HX97_number a0 a1 a2 M) : gd (FX97_number fN a0 a1 a2 M) (GX97_number a0 a1 a2 M) (OkV M) := gX97_number_0 a0 a1 a2 M T n_a0 h
noncomputable def GX97_cells_0 (a0 : Nat) (a1 : Int32) (a2 : Int32) (M : FM) : FM :=
  let M1 : FM := GX97_number a0 101 a1.toInt64 M
  let M2 : FM := GX97_number a0 103 a2.toInt64 M1
  M2
def HX97_cells_0 (a0 : Nat) (a1 : Int32) (a2 : Int32) (M : FM) : Prop := (HX97_number a0 101 a1.toInt64 M ∧ let M1 : FM := GX97_number a0 101 a1.toInt64 M; (HX97_number a0 103 a2.toInt64 M1 ∧ True))
theorem gX97_cells_0 (a0 : Nat) (a1 : Int32) (a2 : Int32) (M : FM) (T : Ty M) (n_a0 : fm_is M 100 100 a0 = true) (h : HX97_cells_0 a0 a1 a2 M) : gd (FX97_cells_0 fN a0 a1 a2 M) (GX97_cells_0 a0 a1 a2 M) (OkV M) := by
  delta FX97_cells_0 BX97_cells_0
  refine gd_c n_a0 ?_
  refine gd_b (gX97_number _ _ _ _ ⟨T.1, T.2⟩ n_a0 h.1) (fun K0 => ?_)
  have f1 := (ext_is K0.2 (Nat.zero_lt_succ _) n_a0)
  refine gd_c f1 ?_
  have f3 := (ext_is K0.2 (Nat.zero_lt_succ _) n_a0)
  refine gd_b (gX97_number _ _ _ _ ⟨K0.1.1, K0.1.2⟩ f3 h.2.1) (fun K2 => ?_)
  exact ⟨rfl, ⟨K2.1.1, K2.1.2⟩, (ext_tr K0.2 K2.2)⟩
noncomputable def GX97_cells (a0 : Nat) (a1 : Int32) (a2 : Int32) (M : FM) : FM := GX97_cells_0 a0 a1 a2 M
def HX97_cells (a0 : Nat) (a1 : Int32) (a2 : Int32) (M : FM) : Prop := HX97_cells_0 a0 a1 a2 M
theorem gX97_cells (a0 : Nat) (a1 : Int32) (a2 : Int32) (M : FM) (T : Ty M) (n_a0 : fm_is M 100 100 a0 = true) (h : HX97_cells a0 a1 a2 M) : gd (FX97_cells fN a0 a1 a2 M) (GX97_cells a0 a1 a2 M) (OkV M) := gX97_cells_0 a0 a1 a2 M T n_a0 h
noncomputable def GX97_text_0 (a0 : Nat) (a1 : Nat) (a2 : Nat) (M : FM) : FM :=
  let M1 : FM := GX97_open a0 a1 M
  let M2 : FM := GX97_characters a0 a2 M1
  let M3 : FM := GX97_close a0 M2
  M3
def HX97_text_0 (a0 : Nat) (a1 : Nat) (a2 : Nat) (M : FM) : Prop := (HX97_open a0 a1 M ∧ let M1 : FM := GX97_open a0 a1 M; (HX97_characters a0 a2 M1 ∧ let M2 : FM := GX97_characters a0 a2 M1; (HX97_close a0 M2 ∧ True)))
theorem gX97_text_0 (a0 : Nat) (a1 : Nat) (a2 : Nat) (M : FM) (T : Ty M) (n_a0 : fm_is M 100 100 a0 = true) (h : HX97_text_0 a0 a1 a2 M) : gd (FX97_text_0 fN a0 a1 a2 M) (GX97_text_0 a0 a1 a2 M) (OkV M) := by
  delta FX97_text_0 BX97_text_0
  refine gd_c n_a0 ?_
  refine gd_b (gX97_open _ _ _ ⟨T.1, T.2⟩ n_a0 h.1) (fun K0 => ?_)
  have f1 := (ext_is K0.2 (Nat.zero_lt_succ _) n_a0)
  refine gd_c f1 ?_
  refine gd_b (gX97_characters _ _ _ h.2.1) (fun K2 => ?_)
  have f3 := (ext_is K2.2 (Nat.zero_lt_succ _) (ext_is K0.2 (Nat.zero_lt_succ _) n_a0))
  refine gd_c f3 ?_
  have f5 := (ext_is K2.2 (Nat.zero_lt_succ _) (ext_is K0.2 (Nat.zero_lt_succ _) n_a0))
  refine gd_b (gX97_close _ _ ⟨K2.1.1, K2.1.2⟩ f5 h.2.2.1) (fun K4 => ?_)
  exact ⟨rfl, ⟨K4.1.1, K4.1.2⟩, (ext_tr K0.2 (ext_tr K2.2 K4.2))⟩
noncomputable def GX97_text (a0 : Nat) (a1 : Nat) (a2 : Nat) (M : FM) : FM := GX97_text_0 a0 a1 a2 M
def HX97_text (a0 : Nat) (a1 : Nat) (a2 : Nat) (M : FM) : Prop := HX97_text_0 a0 a1 a2 M
theorem gX97_text (a0 : Nat) (a1 : Nat) (a2 : Nat) (M : FM) (T : Ty M) (n_a0 : fm_is M 100 100 a0 = true) (h : HX97_text a0 a1 a2 M) : gd (FX97_text fN a0 a1 a2 M) (GX97_text a0 a1 a2 M) (OkV M) := gX97_text_0 a0 a1 a2 M T n_a0 h
noncomputable def GX97_done_0 (a0 : Nat) (M : FM) : FM :=
  let M1 : FM := GX97_four a0 (Int64.ofInt 2) M
  M1
def HX97_done_0 (a0 : Nat) (M : FM) : Prop := (HX97_four a0 (Int64.ofInt 2) M ∧ True)
theorem gX97_done_0 (a0 : Nat) (M : FM) (T : Ty M) (n_a0 : fm_is M 100 100 a0 = true) (h : HX97_done_0 a0 M) : gd (FX97_done_0 fN a0 M) (GX97_done_0 a0 M) (OkV M) := by
  delta FX97_done_0 BX97_done_0
  refine gd_c n_a0 ?_
  refine gd_b (gX97_four _ _ _ h.1) (fun K0 => ?_)
  exact ⟨rfl, ⟨K0.1.1, K0.1.2⟩, K0.2⟩
noncomputable def GX97_done (a0 : Nat) (M : FM) : FM := GX97_done_0 a0 M
def HX97_done (a0 : Nat) (M : FM) : Prop := HX97_done_0 a0 M
theorem gX97_done (a0 : Nat) (M : FM) (T : Ty M) (n_a0 : fm_is M 100 100 a0 = true) (h : HX97_done a0 M) : gd (FX97_done fN a0 M) (GX97_done a0 M) (OkV M) := gX97_done_0 a0 M T n_a0 h
noncomputable def GX97_nothing_0 (a0 : Nat) (a1 : Nat) (M : FM) : FM :=
  let M1 : FM := GX97_open a0 a1 M
  let M2 : FM := GX97_close a0 M1
  M2
def HX97_nothing_0 (a0 : Nat) (a1 : Nat) (M : FM) : Prop := (HX97_open a0 a1 M ∧ let M1 : FM := GX97_open a0 a1 M; (HX97_close a0 M1 ∧ True))
theorem gX97_nothing_0 (a0 : Nat) (a1 : Nat) (M : FM) (T : Ty M) (n_a0 : fm_is M 100 100 a0 = true) (h : HX97_nothing_0 a0 a1 M) : gd (FX97_nothing_0 fN a0 a1 M) (GX97_nothing_0 a0 a1 M) (OkV M) := by
  delta FX97_nothing_0 BX97_nothing_0
  refine gd_c n_a0 ?_
  refine gd_b (gX97_open _ _ _ ⟨T.1, T.2⟩ n_a0 h.1) (fun K0 => ?_)
  have f1 := (ext_is K0.2 (Nat.zero_lt_succ _) n_a0)
  refine gd_c f1 ?_
  have f3 := (ext_is K0.2 (Nat.zero_lt_succ _) n_a0)
  refine gd_b (gX97_close _ _ ⟨K0.1.1, K0.1.2⟩ f3 h.2.1) (fun K2 => ?_)
  exact ⟨rfl, ⟨K2.1.1, K2.1.2⟩, (ext_tr K0.2 K2.2)⟩
noncomputable def GX97_nothing (a0 : Nat) (a1 : Nat) (M : FM) : FM := GX97_nothing_0 a0 a1 M
def HX97_nothing (a0 : Nat) (a1 : Nat) (M : FM) : Prop := HX97_nothing_0 a0 a1 M
theorem gX97_nothing (a0 : Nat) (a1 : Nat) (M : FM) (T : Ty M) (n_a0 : fm_is M 100 100 a0 = true) (h : HX97_nothing a0 a1 M) : gd (FX97_nothing fN a0 a1 M) (GX97_nothing a0 a1 M) (OkV M) := gX97_nothing_0 a0 a1 M T n_a0 h
noncomputable def GX97_processor_32 (a0 : Nat) (a1 : Int32) (s0 : Nat) (s1 : Nat) (M : FM) : FM :=
  let M1 : FM := GX97_node s0 s1 M
  let M2 : FM := GX97_text a0 117 110 M1
  let M3 : FM := GX97_number a0 132 a1.toInt64 M2
  let M4 : FM := GX97_text a0 137 129 M3
  let M5 : FM := GX97_text a0 109 146 M4
  let M6 : FM := GX97_text a0 124 142 M5
  let M7 : FM := GX97_text a0 127 139 M6
  let M8 : FM := GX97_node a0 119 M7
  let M9 : FM := GX97_number a0 102 (Int64.ofInt 1) M8
  let M10 : FM := GX97_nothing a0 119 M9
  let M11 : FM := GX97_text a0 109 148 M10
  let M12 : FM := GX97_number a0 130 ((a1 + (Int32.ofInt 1)).toInt64) M11
  let M13 : FM := GX97_done a0 M12
  let M14 : FM := GX97_done a0 M13
  M14
def HX97_processor_32 (a0 : Nat) (a1 : Int32) (s0 : Nat) (s1 : Nat) (M : FM) : Prop := (HX97_node s0 s1 M ∧ let M1 : FM := GX97_node s0 s1 M; (HX97_text a0 117 110 M1 ∧ let M2 : FM := GX97_text a0 117 110 M1; (HX97_number a0 132 a1.toInt64 M2 ∧ let M3 : FM := GX97_number a0 132 a1.toInt64 M2; (HX97_text a0 137 129 M3 ∧ let M4 : FM := GX97_text a0 137 129 M3; (HX97_text a0 109 146 M4 ∧ let M5 : FM := GX97_text a0 109 146 M4; (HX97_text a0 124 142 M5 ∧ let M6 : FM := GX97_text a0 124 142 M5; (HX97_text a0 127 139 M6 ∧ let M7 : FM := GX97_text a0 127 139 M6; (HX97_node a0 119 M7 ∧ let M8 : FM := GX97_node a0 119 M7; (HX97_number a0 102 (Int64.ofInt 1) M8 ∧ let M9 : FM := GX97_number a0 102 (Int64.ofInt 1) M8; (HX97_nothing a0 119 M9 ∧ let M10 : FM := GX97_nothing a0 119 M9; (HX97_text a0 109 148 M10 ∧ let M11 : FM := GX97_text a0 109 148 M10; (HX97_number a0 130 ((a1 + (Int32.ofInt 1)).toInt64) M11 ∧ let M12 : FM := GX97_number a0 130 ((a1 + (Int32.ofInt 1)).toInt64) M11; (HX97_done a0 M12 ∧ let M13 : FM := GX97_done a0 M12; (HX97_done a0 M13 ∧ True))))))))))))))
theorem gX97_processor_32 (a0 : Nat) (a1 : Int32) (s0 : Nat) (s1 : Nat) (M : FM) (T : Ty M) (n_s0 : fm_is M 100 100 s0 = true) (n_a0 : fm_is M 100 100 a0 = true) (h : HX97_processor_32 a0 a1 s0 s1 M) : gd (FX97_processor_32 fN a0 a1 s0 s1 M) (GX97_processor_32 a0 a1 s0 s1 M) (OkV M) := by
  delta FX97_processor_32 BX97_processor_32
  refine gd_c n_s0 ?_
  refine gd_b (gX97_node _ _ _ ⟨T.1, T.2⟩ n_s0 h.1) (fun K0 => ?_)
  have f1 := (ext_is K0.2 (Nat.zero_lt_succ _) n_a0)
  refine gd_c f1 ?_
  have f39 := (ext_is K0.2 (Nat.zero_lt_succ _) n_a0)
  refine gd_b (gX97_text _ _ _ _ ⟨K0.1.1, K0.1.2⟩ f39 h.2.1) (fun K2 => ?_)
  have f3 := (ext_is K2.2 (Nat.zero_lt_succ _) (ext_is K0.2 (Nat.zero_lt_succ _) n_a0))
  refine gd_c f3 ?_
  have f38 := (ext_is K2.2 (Nat.zero_lt_succ _) (ext_is K0.2 (Nat.zero_lt_succ _) n_a0))
  refine gd_b (gX97_number _ _ _ _ ⟨K2.1.1, K2.1.2⟩ f38 h.2.2.1) (fun K4 => ?_)
  have f5 := (ext_is K4.2 (Nat.zero_lt_succ _) (ext_is K2.2 (Nat.zero_lt_succ _) (ext_is K0.2 (Nat.zero_lt_succ _) n_a0)))
  refine gd_c f5 ?_
  have f37 := (ext_is K4.2 (Nat.zero_lt_succ _) (ext_is K2.2 (Nat.zero_lt_succ _) (ext_is K0.2 (Nat.zero_lt_succ _) n_a0)))
  refine gd_b (gX97_text _ _ _ _ ⟨K4.1.1, K4.1.2⟩ f37 h.2.2.2.1) (fun K6 => ?_)
  have f7 := (ext_is K6.2 (Nat.zero_lt_succ _) (ext_is K4.2 (Nat.zero_lt_succ _) (ext_is K2.2 (Nat.zero_lt_succ _) (ext_is K0.2 (Nat.zero_lt_succ _) n_a0))))
  refine gd_c f7 ?_
  have f36 := (ext_is K6.2 (Nat.zero_lt_succ _) (ext_is K4.2 (Nat.zero_lt_succ _) (ext_is K2.2 (Nat.zero_lt_succ _) (ext_is K0.2 (Nat.zero_lt_succ _) n_a0))))
  refine gd_b (gX97_text _ _ _ _ ⟨K6.1.1, K6.1.2⟩ f36 h.2.2.2.2.1) (fun K8 => ?_)
  have f9 := (ext_is K8.2 (Nat.zero_lt_succ _) (ext_is K6.2 (Nat.zero_lt_succ _) (ext_is K4.2 (Nat.zero_lt_succ _) (ext_is K2.2 (Nat.zero_lt_succ _) (ext_is K0.2 (Nat.zero_lt_succ _) n_a0)))))
  refine gd_c f9 ?_
  have f35 := (ext_is K8.2 (Nat.zero_lt_succ _) (ext_is K6.2 (Nat.zero_lt_succ _) (ext_is K4.2 (Nat.zero_lt_succ _) (ext_is K2.2 (Nat.zero_lt_succ _) (ext_is K0.2 (Nat.zero_lt_succ _) n_a0)))))
  refine gd_b (gX97_text _ _ _ _ ⟨K8.1.1, K8.1.2⟩ f35 h.2.2.2.2.2.1) (fun K10 => ?_)
  have f11 := (ext_is K10.2 (Nat.zero_lt_succ _) (ext_is K8.2 (Nat.zero_lt_succ _) (ext_is K6.2 (Nat.zero_lt_succ _) (ext_is K4.2 (Nat.zero_lt_succ _) (ext_is K2.2 (Nat.zero_lt_succ _) (ext_is K0.2 (Nat.zero_lt_succ _) n_a0))))))
  refine gd_c f11 ?_
  have f34 := (ext_is K10.2 (Nat.zero_lt_succ _) (ext_is K8.2 (Nat.zero_lt_succ _) (ext_is K6.2 (Nat.zero_lt_succ _) (ext_is K4.2 (Nat.zero_lt_succ _) (ext_is K2.2 (Nat.zero_lt_succ _) (ext_is K0.2 (Nat.zero_lt_succ _) n_a0))))))
  refine gd_b (gX97_text _ _ _ _ ⟨K10.1.1, K10.1.2⟩ f34 h.2.2.2.2.2.2.1) (fun K12 => ?_)
  have f13 := (ext_is K12.2 (Nat.zero_lt_succ _) (ext_is K10.2 (Nat.zero_lt_succ _) (ext_is K8.2 (Nat.zero_lt_succ _) (ext_is K6.2 (Nat.zero_lt_succ _) (ext_is K4.2 (Nat.zero_lt_succ _) (ext_is K2.2 (Nat.zero_lt_succ _) (ext_is K0.2 (Nat.zero_lt_succ _) n_a0)))))))
  refine gd_c f13 ?_
  have f33 := (ext_is K12.2 (Nat.zero_lt_succ _) (ext_is K10.2 (Nat.zero_lt_succ _) (ext_is K8.2 (Nat.zero_lt_succ _) (ext_is K6.2 (Nat.zero_lt_succ _) (ext_is K4.2 (Nat.zero_lt_succ _) (ext_is K2.2 (Nat.zero_lt_succ _) (ext_is K0.2 (Nat.zero_lt_succ _) n_a0)))))))
  refine gd_b (gX97_node _ _ _ ⟨K12.1.1, K12.1.2⟩ f33 h.2.2.2.2.2.2.2.1) (fun K14 => ?_)
  have f15 := (ext_is K14.2 (Nat.zero_lt_succ _) (ext_is K12.2 (Nat.zero_lt_succ _) (ext_is K10.2 (Nat.zero_lt_succ _) (ext_is K8.2 (Nat.zero_lt_succ _) (ext_is K6.2 (Nat.zero_lt_succ _) (ext_is K4.2 (Nat.zero_lt_succ _) (ext_is K2.2 (Nat.zero_lt_succ _) (ext_is K0.2 (Nat.zero_lt_succ _) n_a0))))))))
  refine gd_c f15 ?_
  have f32 := (ext_is K14.2 (Nat.zero_lt_succ _) (ext_is K12.2 (Nat.zero_lt_succ _) (ext_is K10.2 (Nat.zero_lt_succ _) (ext_is K8.2 (Nat.zero_lt_succ _) (ext_is K6.2 (Nat.zero_lt_succ _) (ext_is K4.2 (Nat.zero_lt_succ _) (ext_is K2.2 (Nat.zero_lt_succ _) (ext_is K0.2 (Nat.zero_lt_succ _) n_a0))))))))
  refine gd_b (gX97_number _ _ _ _ ⟨K14.1.1, K14.1.2⟩ f32 h.2.2.2.2.2.2.2.2.1) (fun K16 => ?_)
  have f17 := (ext_is K16.2 (Nat.zero_lt_succ _) (ext_is K14.2 (Nat.zero_lt_succ _) (ext_is K12.2 (Nat.zero_lt_succ _) (ext_is K10.2 (Nat.zero_lt_succ _) (ext_is K8.2 (Nat.zero_lt_succ _) (ext_is K6.2 (Nat.zero_lt_succ _) (ext_is K4.2 (Nat.zero_lt_succ _) (ext_is K2.2 (Nat.zero_lt_succ _) (ext_is K0.2 (Nat.zero_lt_succ _) n_a0)))))))))
  refine gd_c f17 ?_
  have f31 := (ext_is K16.2 (Nat.zero_lt_succ _) (ext_is K14.2 (Nat.zero_lt_succ _) (ext_is K12.2 (Nat.zero_lt_succ _) (ext_is K10.2 (Nat.zero_lt_succ _) (ext_is K8.2 (Nat.zero_lt_succ _) (ext_is K6.2 (Nat.zero_lt_succ _) (ext_is K4.2 (Nat.zero_lt_succ _) (ext_is K2.2 (Nat.zero_lt_succ _) (ext_is K0.2 (Nat.zero_lt_succ _) n_a0)))))))))
  refine gd_b (gX97_nothing _ _ _ ⟨K16.1.1, K16.1.2⟩ f31 h.2.2.2.2.2.2.2.2.2.1) (fun K18 => ?_)
  have f19 := (ext_is K18.2 (Nat.zero_lt_succ _) (ext_is K16.2 (Nat.zero_lt_succ _) (ext_is K14.2 (Nat.zero_lt_succ _) (ext_is K12.2 (Nat.zero_lt_succ _) (ext_is K10.2 (Nat.zero_lt_succ _) (ext_is K8.2 (Nat.zero_lt_succ _) (ext_is K6.2 (Nat.zero_lt_succ _) (ext_is K4.2 (Nat.zero_lt_succ _) (ext_is K2.2 (Nat.zero_lt_succ _) (ext_is K0.2 (Nat.zero_lt_succ _) n_a0))))))))))
  refine gd_c f19 ?_
  have f30 := (ext_is K18.2 (Nat.zero_lt_succ _) (ext_is K16.2 (Nat.zero_lt_succ _) (ext_is K14.2 (Nat.zero_lt_succ _) (ext_is K12.2 (Nat.zero_lt_succ _) (ext_is K10.2 (Nat.zero_lt_succ _) (ext_is K8.2 (Nat.zero_lt_succ _) (ext_is K6.2 (Nat.zero_lt_succ _) (ext_is K4.2 (Nat.zero_lt_succ _) (ext_is K2.2 (Nat.zero_lt_succ _) (ext_is K0.2 (Nat.zero_lt_succ _) n_a0))))))))))
  refine gd_b (gX97_text _ _ _ _ ⟨K18.1.1, K18.1.2⟩ f30 h.2.2.2.2.2.2.2.2.2.2.1) (fun K20 => ?_)
  have f21 := (ext_is K20.2 (Nat.zero_lt_succ _) (ext_is K18.2 (Nat.zero_lt_succ _) (ext_is K16.2 (Nat.zero_lt_succ _) (ext_is K14.2 (Nat.zero_lt_succ _) (ext_is K12.2 (Nat.zero_lt_succ _) (ext_is K10.2 (Nat.zero_lt_succ _) (ext_is K8.2 (Nat.zero_lt_succ _) (ext_is K6.2 (Nat.zero_lt_succ _) (ext_is K4.2 (Nat.zero_lt_succ _) (ext_is K2.2 (Nat.zero_lt_succ _) (ext_is K0.2 (Nat.zero_lt_succ _) n_a0)))))))))))
  refine gd_c f21 ?_
  have f29 := (ext_is K20.2 (Nat.zero_lt_succ _) (ext_is K18.2 (Nat.zero_lt_succ _) (ext_is K16.2 (Nat.zero_lt_succ _) (ext_is K14.2 (Nat.zero_lt_succ _) (ext_is K12.2 (Nat.zero_lt_succ _) (ext_is K10.2 (Nat.zero_lt_succ _) (ext_is K8.2 (Nat.zero_lt_succ _) (ext_is K6.2 (Nat.zero_lt_succ _) (ext_is K4.2 (Nat.zero_lt_succ _) (ext_is K2.2 (Nat.zero_lt_succ _) (ext_is K0.2 (Nat.zero_lt_succ _) n_a0)))))))))))
  refine gd_b (gX97_number _ _ _ _ ⟨K20.1.1, K20.1.2⟩ f29 h.2.2.2.2.2.2.2.2.2.2.2.1) (fun K22 => ?_)
  have f23 := (ext_is K22.2 (Nat.zero_lt_succ _) (ext_is K20.2 (Nat.zero_lt_succ _) (ext_is K18.2 (Nat.zero_lt_succ _) (ext_is K16.2 (Nat.zero_lt_succ _) (ext_is K14.2 (Nat.zero_lt_succ _) (ext_is K12.2 (Nat.zero_lt_succ _) (ext_is K10.2 (Nat.zero_lt_succ _) (ext_is K8.2 (Nat.zero_lt_succ _) (ext_is K6.2 (Nat.zero_lt_succ _) (ext_is K4.2 (Nat.zero_lt_succ _) (ext_is K2.2 (Nat.zero_lt_succ _) (ext_is K0.2 (Nat.zero_lt_succ _) n_a0))))))))))))
  refine gd_c f23 ?_
  have f28 := (ext_is K22.2 (Nat.zero_lt_succ _) (ext_is K20.2 (Nat.zero_lt_succ _) (ext_is K18.2 (Nat.zero_lt_succ _) (ext_is K16.2 (Nat.zero_lt_succ _) (ext_is K14.2 (Nat.zero_lt_succ _) (ext_is K12.2 (Nat.zero_lt_succ _) (ext_is K10.2 (Nat.zero_lt_succ _) (ext_is K8.2 (Nat.zero_lt_succ _) (ext_is K6.2 (Nat.zero_lt_succ _) (ext_is K4.2 (Nat.zero_lt_succ _) (ext_is K2.2 (Nat.zero_lt_succ _) (ext_is K0.2 (Nat.zero_lt_succ _) n_a0))))))))))))
  refine gd_b (gX97_done _ _ ⟨K22.1.1, K22.1.2⟩ f28 h.2.2.2.2.2.2.2.2.2.2.2.2.1) (fun K24 => ?_)
  have f25 := (ext_is K24.2 (Nat.zero_lt_succ _) (ext_is K22.2 (Nat.zero_lt_succ _) (ext_is K20.2 (Nat.zero_lt_succ _) (ext_is K18.2 (Nat.zero_lt_succ _) (ext_is K16.2 (Nat.zero_lt_succ _) (ext_is K14.2 (Nat.zero_lt_succ _) (ext_is K12.2 (Nat.zero_lt_succ _) (ext_is K10.2 (Nat.zero_lt_succ _) (ext_is K8.2 (Nat.zero_lt_succ _) (ext_is K6.2 (Nat.zero_lt_succ _) (ext_is K4.2 (Nat.zero_lt_succ _) (ext_is K2.2 (Nat.zero_lt_succ _) (ext_is K0.2 (Nat.zero_lt_succ _) n_a0)))))))))))))
  refine gd_c f25 ?_
  have f27 := (ext_is K24.2 (Nat.zero_lt_succ _) (ext_is K22.2 (Nat.zero_lt_succ _) (ext_is K20.2 (Nat.zero_lt_succ _) (ext_is K18.2 (Nat.zero_lt_succ _) (ext_is K16.2 (Nat.zero_lt_succ _) (ext_is K14.2 (Nat.zero_lt_succ _) (ext_is K12.2 (Nat.zero_lt_succ _) (ext_is K10.2 (Nat.zero_lt_succ _) (ext_is K8.2 (Nat.zero_lt_succ _) (ext_is K6.2 (Nat.zero_lt_succ _) (ext_is K4.2 (Nat.zero_lt_succ _) (ext_is K2.2 (Nat.zero_lt_succ _) (ext_is K0.2 (Nat.zero_lt_succ _) n_a0)))))))))))))
  refine gd_b (gX97_done _ _ ⟨K24.1.1, K24.1.2⟩ f27 h.2.2.2.2.2.2.2.2.2.2.2.2.2.1) (fun K26 => ?_)
  exact ⟨rfl, ⟨K26.1.1, K26.1.2⟩, (ext_tr K0.2 (ext_tr K2.2 (ext_tr K4.2 (ext_tr K6.2 (ext_tr K8.2 (ext_tr K10.2 (ext_tr K12.2 (ext_tr K14.2 (ext_tr K16.2 (ext_tr K18.2 (ext_tr K20.2 (ext_tr K22.2 (ext_tr K24.2 K26.2)))))))))))))⟩
noncomputable def GX97_processor_0 (a0 : Nat) (a1 : Int32) (M : FM) : FM :=
  fi (a1 = 0) (
    GX97_processor_32 a0 a1 a0 112 M) (
    fi (a1 = (Int32.ofInt 1)) (
      GX97_processor_32 a0 a1 a0 113 M) (
      fi (a1 = (Int32.ofInt 2)) (
        GX97_processor_32 a0 a1 a0 114 M) (
        GX97_processor_32 a0 a1 a0 115 M)))
def HX97_processor_0 (a0 : Nat) (a1 : Int32) (M : FM) : Prop := ((a1 = 0 → HX97_processor_32 a0 a1 a0 112 M) ∧ (¬ (a1 = 0) → ((a1 = (Int32.ofInt 1) → HX97_processor_32 a0 a1 a0 113 M) ∧ (¬ (a1 = (Int32.ofInt 1)) → ((a1 = (Int32.ofInt 2) → HX97_processor_32 a0 a1 a0 114 M) ∧ (¬ (a1 = (Int32.ofInt 2)) → HX97_processor_32 a0 a1 a0 115 M))))))
theorem gX97_processor_0 (a0 : Nat) (a1 : Int32) (M : FM) (T : Ty M) (n_a0 : fm_is M 100 100 a0 = true) (h : HX97_processor_0 a0 a1 M) : gd (FX97_processor_0 fN a0 a1 M) (GX97_processor_0 a0 a1 M) (OkV M) := by
  delta FX97_processor_0 BX97_processor_0
  refine gd_fi (fun c0_0 => ?_) (fun c0_0 => ?_)
  · exact gd_tV (ext_r _) (gX97_processor_32 _ _ _ _ _ ⟨T.1, T.2⟩ n_a0 n_a0 (h.1 c0_0))
  · refine gd_fi (fun c1_0 => ?_) (fun c1_0 => ?_)
    · exact gd_tV (ext_r _) (gX97_processor_32 _ _ _ _ _ ⟨T.1, T.2⟩ n_a0 n_a0 ((h.2 c0_0).1 c1_0))
    · refine gd_fi (fun c2_0 => ?_) (fun c2_0 => ?_)
      · exact gd_tV (ext_r _) (gX97_processor_32 _ _ _ _ _ ⟨T.1, T.2⟩ n_a0 n_a0 (((h.2 c0_0).2 c1_0).1 c2_0))
      · exact gd_tV (ext_r _) (gX97_processor_32 _ _ _ _ _ ⟨T.1, T.2⟩ n_a0 n_a0 (((h.2 c0_0).2 c1_0).2 c2_0))
noncomputable def GX97_processor (a0 : Nat) (a1 : Int32) (M : FM) : FM := GX97_processor_0 a0 a1 M
def HX97_processor (a0 : Nat) (a1 : Int32) (M : FM) : Prop := HX97_processor_0 a0 a1 M
theorem gX97_processor (a0 : Nat) (a1 : Int32) (M : FM) (T : Ty M) (n_a0 : fm_is M 100 100 a0 = true) (h : HX97_processor a0 a1 M) : gd (FX97_processor fN a0 a1 M) (GX97_processor a0 a1 M) (OkV M) := gX97_processor_0 a0 a1 M T n_a0 h
noncomputable def GX97_eight_0 (a0 : Nat) (a1 : Int64) (M : FM) : FM :=
  let M1 : FM := GX97_four a0 ((a1.toUInt64 >>> ((Int32.ofInt 32).toInt64.toUInt64 &&& Int64.toUInt64 63)).toInt64) M
  let M2 : FM := GX97_four a0 a1 M1
  M2
def HX97_eight_0 (a0 : Nat) (a1 : Int64) (M : FM) : Prop := (HX97_four a0 ((a1.toUInt64 >>> ((Int32.ofInt 32).toInt64.toUInt64 &&& Int64.toUInt64 63)).toInt64) M ∧ let M1 : FM := GX97_four a0 ((a1.toUInt64 >>> ((Int32.ofInt 32).toInt64.toUInt64 &&& Int64.toUInt64 63)).toInt64) M; (HX97_four a0 a1 M1 ∧ True))
theorem gX97_eight_0 (a0 : Nat) (a1 : Int64) (M : FM) (T : Ty M) (n_a0 : fm_is M 100 100 a0 = true) (h : HX97_eight_0 a0 a1 M) : gd (FX97_eight_0 fN a0 a1 M) (GX97_eight_0 a0 a1 M) (OkV M) := by
  delta FX97_eight_0 BX97_eight_0
  refine gd_c n_a0 ?_
  refine gd_b (gX97_four _ _ _ h.1) (fun K0 => ?_)
  have f1 := (ext_is K0.2 (Nat.zero_lt_succ _) n_a0)
  refine gd_c f1 ?_
  refine gd_b (gX97_four _ _ _ h.2.1) (fun K2 => ?_)
  exact ⟨rfl, ⟨K2.1.1, K2.1.2⟩, (ext_tr K0.2 K2.2)⟩
noncomputable def GX97_eight (a0 : Nat) (a1 : Int64) (M : FM) : FM := GX97_eight_0 a0 a1 M
def HX97_eight (a0 : Nat) (a1 : Int64) (M : FM) : Prop := HX97_eight_0 a0 a1 M
theorem gX97_eight (a0 : Nat) (a1 : Int64) (M : FM) (T : Ty M) (n_a0 : fm_is M 100 100 a0 = true) (h : HX97_eight a0 a1 M) : gd (FX97_eight fN a0 a1 M) (GX97_eight a0 a1 M) (OkV M) := gX97_eight_0 a0 a1 M T n_a0 h
noncomputable def GX97_region_0 (a0 : Nat) (a1 : Int64) (a3 : Int64) (M : FM) : FM :=
  let M1 : FM := GX97_open a0 132 M
  let M2 : FM := GX97_eight a0 a1 M1
  let M3 : FM := GX97_eight a0 a3 M2
  let M4 : FM := GX97_close a0 M3
  M4
def HX97_region_0 (a0 : Nat) (a1 : Int64) (a3 : Int64) (M : FM) : Prop := (HX97_open a0 132 M ∧ let M1 : FM := GX97_open a0 132 M; (HX97_eight a0 a1 M1 ∧ let M2 : FM := GX97_eight a0 a1 M1; (HX97_eight a0 a3 M2 ∧ let M3 : FM := GX97_eight a0 a3 M2; (HX97_close a0 M3 ∧ True))))
theorem gX97_region_0 (a0 : Nat) (a1 : Int64) (a3 : Int64) (M : FM) (T : Ty M) (n_a0 : fm_is M 100 100 a0 = true) (h : HX97_region_0 a0 a1 a3 M) : gd (FX97_region_0 fN a0 a1 a3 M) (GX97_region_0 a0 a1 a3 M) (OkV M) := by
  delta FX97_region_0 BX97_region_0
  refine gd_c n_a0 ?_
  refine gd_b (gX97_open _ _ _ ⟨T.1, T.2⟩ n_a0 h.1) (fun K0 => ?_)
  have f1 := (ext_is K0.2 (Nat.zero_lt_succ _) n_a0)
  refine gd_c f1 ?_
  have f9 := (ext_is K0.2 (Nat.zero_lt_succ _) n_a0)
  refine gd_b (gX97_eight _ _ _ ⟨K0.1.1, K0.1.2⟩ f9 h.2.1) (fun K2 => ?_)
  have f3 := (ext_is K2.2 (Nat.zero_lt_succ _) (ext_is K0.2 (Nat.zero_lt_succ _) n_a0))
  refine gd_c f3 ?_
  have f8 := (ext_is K2.2 (Nat.zero_lt_succ _) (ext_is K0.2 (Nat.zero_lt_succ _) n_a0))
  refine gd_b (gX97_eight _ _ _ ⟨K2.1.1, K2.1.2⟩ f8 h.2.2.1) (fun K4 => ?_)
  have f5 := (ext_is K4.2 (Nat.zero_lt_succ _) (ext_is K2.2 (Nat.zero_lt_succ _) (ext_is K0.2 (Nat.zero_lt_succ _) n_a0)))
  refine gd_c f5 ?_
  have f7 := (ext_is K4.2 (Nat.zero_lt_succ _) (ext_is K2.2 (Nat.zero_lt_succ _) (ext_is K0.2 (Nat.zero_lt_succ _) n_a0)))
  refine gd_b (gX97_close _ _ ⟨K4.1.1, K4.1.2⟩ f7 h.2.2.2.1) (fun K6 => ?_)
  exact ⟨rfl, ⟨K6.1.1, K6.1.2⟩, (ext_tr K0.2 (ext_tr K2.2 (ext_tr K4.2 K6.2)))⟩
noncomputable def GX97_region (a0 : Nat) (a1 : Int64) (a3 : Int64) (M : FM) : FM := GX97_region_0 a0 a1 a3 M
def HX97_region (a0 : Nat) (a1 : Int64) (a3 : Int64) (M : FM) : Prop := HX97_region_0 a0 a1 a3 M
theorem gX97_region (a0 : Nat) (a1 : Int64) (a3 : Int64) (M : FM) (T : Ty M) (n_a0 : fm_is M 100 100 a0 = true) (h : HX97_region a0 a1 a3 M) : gd (FX97_region fN a0 a1 a3 M) (GX97_region a0 a1 a3 M) (OkV M) := gX97_region_0 a0 a1 a3 M T n_a0 h
def kX97_lines (k9 : Nat → Int32 → Int32 → Int32 → Int32 → FM → Option (FM)) : (Nat × Int32 × Int32 × Int32 × Int32 × FM) ⊕ (FM) → Option (FM)
  | .inl (v0, v1, v2, v3, v4, M') => k9 v0 v1 v2 v3 v4 M'
  | .inr (r) => some r
def pX97_lines (M : FM) : (Nat × Int32 × Int32 × Int32 × Int32 × FM) ⊕ (FM) → Prop
  | .inl (_, _, _, _, _, M') => OkV M M'
  | .inr (r) => OkV M r
theorem pX97_lines_t {M M1 : FM} (e : Ext M M1) : ∀ y, pX97_lines M1 y → pX97_lines M y
  | .inl (_, _, _, _, _, _), h => ⟨h.1, ext_tr e h.2⟩
  | .inr (r), h => ⟨h.1, ext_tr e h.2⟩
noncomputable def GX97_lines_0 (a0 : Nat) (a1 : Int32) (a2 : Int32) (a3 : Int32) (M : FM) : (Nat × Int32 × Int32 × Int32 × Int32 × FM) ⊕ (FM) :=
  let M1 : FM := GX97_open a0 123 M
  (.inl (a0, a1, a2, a3, (Int32.ofInt 0), M1))
def HX97_lines_0 (a0 : Nat) (a1 : Int32) (a2 : Int32) (a3 : Int32) (M : FM) : Prop := (HX97_open a0 123 M ∧ True)
theorem gX97_lines_0 (k9 : Nat → Int32 → Int32 → Int32 → Int32 → FM → Option (FM)) (a0 : Nat) (a1 : Int32) (a2 : Int32) (a3 : Int32) (M : FM) (T : Ty M) (n_a0 : fm_is M 100 100 a0 = true) (h : HX97_lines_0 a0 a1 a2 a3 M) : gs (FX97_lines_0 fN k9 a0 a1 a2 a3 M) (GX97_lines_0 a0 a1 a2 a3 M) (kX97_lines k9) (pX97_lines M) := by
  delta FX97_lines_0 BX97_lines_0
  refine gs_c n_a0 ?_
  refine gs_b (gX97_open _ _ _ ⟨T.1, T.2⟩ n_a0 h.1) (fun K0 => ?_)
  exact And.intro rfl (And.intro (And.intro K0.1.1 K0.1.2) K0.2)
noncomputable def GX97_lines_9 (a0 : Nat) (a1 : Int32) (a2 : Int32) (a3 : Int32) (a4 : Int32) (M : FM) : (Nat × Int32 × Int32 × Int32 × Int32 × FM) ⊕ (FM) :=
  fi (a1 ≤ a4) (
    let M1 : FM := GX97_close a0 M
    (.inr M1)) (
    let M2 : FM := GX97_four a0 ((a4 + (Int32.ofInt 1)).toInt64) M
    let M3 : FM := GX97_four a0 a2.toInt64 M2
    let M4 : FM := GX97_four a0 ((a4 + (Int32.ofInt 1)).toInt64) M3
    let M5 : FM := GX97_four a0 a3.toInt64 M4
    let x6 : Int32 := a4 + (Int32.ofInt 1)
    (.inl (a0, a1, a2, a3, x6, M5)))
def HX97_lines_9 (a0 : Nat) (a1 : Int32) (a2 : Int32) (a3 : Int32) (a4 : Int32) (M : FM) : Prop := ((a1 ≤ a4 → (HX97_close a0 M ∧ True)) ∧ (¬ (a1 ≤ a4) → (HX97_four a0 ((a4 + (Int32.ofInt 1)).toInt64) M ∧ let M2 : FM := GX97_four a0 ((a4 + (Int32.ofInt 1)).toInt64) M; (HX97_four a0 a2.toInt64 M2 ∧ let M3 : FM := GX97_four a0 a2.toInt64 M2; (HX97_four a0 ((a4 + (Int32.ofInt 1)).toInt64) M3 ∧ let M4 : FM := GX97_four a0 ((a4 + (Int32.ofInt 1)).toInt64) M3; (HX97_four a0 a3.toInt64 M4 ∧ True))))))
theorem gX97_lines_9 (k9 : Nat → Int32 → Int32 → Int32 → Int32 → FM → Option (FM)) (a0 : Nat) (a1 : Int32) (a2 : Int32) (a3 : Int32) (a4 : Int32) (M : FM) (T : Ty M) (n_a0 : fm_is M 100 100 a0 = true) (h : HX97_lines_9 a0 a1 a2 a3 a4 M) : gs (FX97_lines_9 fN k9 a0 a1 a2 a3 a4 M) (GX97_lines_9 a0 a1 a2 a3 a4 M) (kX97_lines k9) (pX97_lines M) := by
  delta FX97_lines_9 BX97_lines_9
  refine gs_fi (fun c0_0 => ?_) (fun c0_0 => ?_)
  · refine gs_c n_a0 ?_
    refine gs_b (gX97_close _ _ ⟨T.1, T.2⟩ n_a0 (h.1 c0_0).1) (fun K1 => ?_)
    exact And.intro rfl (And.intro (And.intro K1.1.1 K1.1.2) K1.2)
  · refine gs_c n_a0 ?_
    refine gs_b (gX97_four _ _ _ (h.2 c0_0).1) (fun K2 => ?_)
    have f3 := (ext_is K2.2 (Nat.zero_lt_succ _) n_a0)
    refine gs_c f3 ?_
    refine gs_b (gX97_four _ _ _ (h.2 c0_0).2.1) (fun K4 => ?_)
    have f5 := (ext_is K4.2 (Nat.zero_lt_succ _) (ext_is K2.2 (Nat.zero_lt_succ _) n_a0))
    refine gs_c f5 ?_
    refine gs_b (gX97_four _ _ _ (h.2 c0_0).2.2.1) (fun K6 => ?_)
    have f7 := (ext_is K6.2 (Nat.zero_lt_succ _) (ext_is K4.2 (Nat.zero_lt_succ _) (ext_is K2.2 (Nat.zero_lt_succ _) n_a0)))
    refine gs_c f7 ?_
    refine gs_b (gX97_four _ _ _ (h.2 c0_0).2.2.2.1) (fun K8 => ?_)
    exact And.intro rfl (And.intro (And.intro K8.1.1 K8.1.2) ((ext_tr K2.2 (ext_tr K4.2 (ext_tr K6.2 K8.2)))))
noncomputable def GX97_lines (a0 : Nat) (a1 : Int32) (a2 : Int32) (a3 : Int32) (M : FM) : FM := (FX97_lines fN a0 a1 a2 a3 M).getD M
def HX97_lines (a0 : Nat) (a1 : Int32) (a2 : Int32) (a3 : Int32) (M : FM) : Prop := ∃ r, FX97_lines fN a0 a1 a2 a3 M = some r ∧ OkV M r
theorem gX97_lines (a0 : Nat) (a1 : Int32) (a2 : Int32) (a3 : Int32) (M : FM) (h : HX97_lines a0 a1 a2 a3 M) : gd (FX97_lines fN a0 a1 a2 a3 M) (GX97_lines a0 a1 a2 a3 M) (OkV M) := gd_op h
noncomputable def GX97_devices_0 (a0 : Nat) (a1 : Int32) (M : FM) : FM :=
  let x1 : Int32 := (a1 + (Int32.ofInt 1))
  let M2 : FM := GX97_node a0 118 M
  let M3 : FM := GX97_text a0 109 147 M2
  let M4 : FM := GX97_region a0 (Int64.ofInt 1048576) (Int64.ofInt 4096) M3
  let M5 : FM := GX97_done a0 M4
  let M6 : FM := GX97_node a0 141 M5
  let M7 : FM := GX97_text a0 109 150 M6
  let M8 : FM := GX97_lines a0 a1 (Int32.ofInt 3) (Int32.ofInt 7) M7
  let M9 : FM := GX97_region a0 (Int64.ofInt 33554432) (Int64.ofInt 65536) M8
  let M10 : FM := GX97_done a0 M9
  let M11 : FM := GX97_node a0 120 M10
  let M12 : FM := GX97_number a0 102 (Int64.ofInt 1) M11
  let M13 : FM := GX97_nothing a0 119 M12
  let M14 : FM := GX97_text a0 109 145 M13
  let M15 : FM := GX97_lines a0 a1 (Int32.ofInt 11) (Int32.ofInt 9) M14
  let M16 : FM := GX97_region a0 (Int64.ofInt 201326592) (Int64.ofInt 4194304) M15
  let M17 : FM := GX97_number a0 136 (Int64.ofInt 31) M16
  let M18 : FM := GX97_number a0 130 x1.toInt64 M17
  let M19 : FM := GX97_done a0 M18
  let M20 : FM := GX97_node a0 133 M19
  let M21 : FM := GX97_text a0 109 149 M20
  let M22 : FM := GX97_region a0 (Int64.ofInt 268435456) (Int64.ofInt 256) M21
  let M23 : FM := GX97_number a0 122 (Int64.ofInt 10) M22
  let M24 : FM := GX97_number a0 121 x1.toInt64 M23
  let M25 : FM := GX97_done a0 M24
  let M26 : FM := GX97_node a0 106 M25
  let M27 : FM := GX97_text a0 109 143 M26
  let M28 : FM := GX97_region a0 (Int64.ofInt 268439552) (Int64.ofInt 4096) M27
  let M29 : FM := GX97_number a0 122 (Int64.ofInt 1) M28
  let M30 : FM := GX97_number a0 121 x1.toInt64 M29
  let M31 : FM := GX97_done a0 M30
  M31
def HX97_devices_0 (a0 : Nat) (a1 : Int32) (M : FM) : Prop := let x1 : Int32 := (a1 + (Int32.ofInt 1)); (HX97_node a0 118 M ∧ let M2 : FM := GX97_node a0 118 M; (HX97_text a0 109 147 M2 ∧ let M3 : FM := GX97_text a0 109 147 M2; (HX97_region a0 (Int64.ofInt 1048576) (Int64.ofInt 4096) M3 ∧ let M4 : FM := GX97_region a0 (Int64.ofInt 1048576) (Int64.ofInt 4096) M3; (HX97_done a0 M4 ∧ let M5 : FM := GX97_done a0 M4; (HX97_node a0 141 M5 ∧ let M6 : FM := GX97_node a0 141 M5; (HX97_text a0 109 150 M6 ∧ let M7 : FM := GX97_text a0 109 150 M6; (HX97_lines a0 a1 (Int32.ofInt 3) (Int32.ofInt 7) M7 ∧ let M8 : FM := GX97_lines a0 a1 (Int32.ofInt 3) (Int32.ofInt 7) M7; (HX97_region a0 (Int64.ofInt 33554432) (Int64.ofInt 65536) M8 ∧ let M9 : FM := GX97_region a0 (Int64.ofInt 33554432) (Int64.ofInt 65536) M8; (HX97_done a0 M9 ∧ let M10 : FM := GX97_done a0 M9; (HX97_node a0 120 M10 ∧ let M11 : FM := GX97_node a0 120 M10; (HX97_number a0 102 (Int64.ofInt 1) M11 ∧ let M12 : FM := GX97_number a0 102 (Int64.ofInt 1) M11; (HX97_nothing a0 119 M12 ∧ let M13 : FM := GX97_nothing a0 119 M12; (HX97_text a0 109 145 M13 ∧ let M14 : FM := GX97_text a0 109 145 M13; (HX97_lines a0 a1 (Int32.ofInt 11) (Int32.ofInt 9) M14 ∧ let M15 : FM := GX97_lines a0 a1 (Int32.ofInt 11) (Int32.ofInt 9) M14; (HX97_region a0 (Int64.ofInt 201326592) (Int64.ofInt 4194304) M15 ∧ let M16 : FM := GX97_region a0 (Int64.ofInt 201326592) (Int64.ofInt 4194304) M15; (HX97_number a0 136 (Int64.ofInt 31) M16 ∧ let M17 : FM := GX97_number a0 136 (Int64.ofInt 31) M16; (HX97_number a0 130 x1.toInt64 M17 ∧ let M18 : FM := GX97_number a0 130 x1.toInt64 M17; (HX97_done a0 M18 ∧ let M19 : FM := GX97_done a0 M18; (HX97_node a0 133 M19 ∧ let M20 : FM := GX97_node a0 133 M19; (HX97_text a0 109 149 M20 ∧ let M21 : FM := GX97_text a0 109 149 M20; (HX97_region a0 (Int64.ofInt 268435456) (Int64.ofInt 256) M21 ∧ let M22 : FM := GX97_region a0 (Int64.ofInt 268435456) (Int64.ofInt 256) M21; (HX97_number a0 122 (Int64.ofInt 10) M22 ∧ let M23 : FM := GX97_number a0 122 (Int64.ofInt 10) M22; (HX97_number a0 121 x1.toInt64 M23 ∧ let M24 : FM := GX97_number a0 121 x1.toInt64 M23; (HX97_done a0 M24 ∧ let M25 : FM := GX97_done a0 M24; (HX97_node a0 106 M25 ∧ let M26 : FM := GX97_node a0 106 M25; (HX97_text a0 109 143 M26 ∧ let M27 : FM := GX97_text a0 109 143 M26; (HX97_region a0 (Int64.ofInt 268439552) (Int64.ofInt 4096) M27 ∧ let M28 : FM := GX97_region a0 (Int64.ofInt 268439552) (Int64.ofInt 4096) M27; (HX97_number a0 122 (Int64.ofInt 1) M28 ∧ let M29 : FM := GX97_number a0 122 (Int64.ofInt 1) M28; (HX97_number a0 121 x1.toInt64 M29 ∧ let M30 : FM := GX97_number a0 121 x1.toInt64 M29; (HX97_done a0 M30 ∧ True))))))))))))))))))))))))))))))
theorem gX97_devices_0 (a0 : Nat) (a1 : Int32) (M : FM) (T : Ty M) (n_a0 : fm_is M 100 100 a0 = true) (h : HX97_devices_0 a0 a1 M) : gd (FX97_devices_0 fN a0 a1 M) (GX97_devices_0 a0 a1 M) (OkV M) := by
  delta FX97_devices_0 BX97_devices_0
  refine gd_c n_a0 ?_
  refine gd_b (gX97_node _ _ _ ⟨T.1, T.2⟩ n_a0 h.1) (fun K0 => ?_)
  have f1 := (ext_is K0.2 (Nat.zero_lt_succ _) n_a0)
  refine gd_c f1 ?_
  have f85 := (ext_is K0.2 (Nat.zero_lt_succ _) n_a0)
  refine gd_b (gX97_text _ _ _ _ ⟨K0.1.1, K0.1.2⟩ f85 h.2.1) (fun K2 => ?_)
  have f3 := (ext_is K2.2 (Nat.zero_lt_succ _) (ext_is K0.2 (Nat.zero_lt_succ _) n_a0))
  refine gd_c f3 ?_
  have f84 := (ext_is K2.2 (Nat.zero_lt_succ _) (ext_is K0.2 (Nat.zero_lt_succ _) n_a0))
  refine gd_b (gX97_region _ _ _ _ ⟨K2.1.1, K2.1.2⟩ f84 h.2.2.1) (fun K4 => ?_)
  have f5 := (ext_is K4.2 (Nat.zero_lt_succ _) (ext_is K2.2 (Nat.zero_lt_succ _) (ext_is K0.2 (Nat.zero_lt_succ _) n_a0)))
  refine gd_c f5 ?_
  have f83 := (ext_is K4.2 (Nat.zero_lt_succ _) (ext_is K2.2 (Nat.zero_lt_succ _) (ext_is K0.2 (Nat.zero_lt_succ _) n_a0)))
  refine gd_b (gX97_done _ _ ⟨K4.1.1, K4.1.2⟩ f83 h.2.2.2.1) (fun K6 => ?_)
  have f7 := (ext_is K6.2 (Nat.zero_lt_succ _) (ext_is K4.2 (Nat.zero_lt_succ _) (ext_is K2.2 (Nat.zero_lt_succ _) (ext_is K0.2 (Nat.zero_lt_succ _) n_a0))))
  refine gd_c f7 ?_
  have f82 := (ext_is K6.2 (Nat.zero_lt_succ _) (ext_is K4.2 (Nat.zero_lt_succ _) (ext_is K2.2 (Nat.zero_lt_succ _) (ext_is K0.2 (Nat.zero_lt_succ _) n_a0))))
  refine gd_b (gX97_node _ _ _ ⟨K6.1.1, K6.1.2⟩ f82 h.2.2.2.2.1) (fun K8 => ?_)
  have f9 := (ext_is K8.2 (Nat.zero_lt_succ _) (ext_is K6.2 (Nat.zero_lt_succ _) (ext_is K4.2 (Nat.zero_lt_succ _) (ext_is K2.2 (Nat.zero_lt_succ _) (ext_is K0.2 (Nat.zero_lt_succ _) n_a0)))))
  refine gd_c f9 ?_
  have f81 := (ext_is K8.2 (Nat.zero_lt_succ _) (ext_is K6.2 (Nat.zero_lt_succ _) (ext_is K4.2 (Nat.zero_lt_succ _) (ext_is K2.2 (Nat.zero_lt_succ _) (ext_is K0.2 (Nat.zero_lt_succ _) n_a0)))))
  refine gd_b (gX97_text _ _ _ _ ⟨K8.1.1, K8.1.2⟩ f81 h.2.2.2.2.2.1) (fun K10 => ?_)
  have f11 := (ext_is K10.2 (Nat.zero_lt_succ _) (ext_is K8.2 (Nat.zero_lt_succ _) (ext_is K6.2 (Nat.zero_lt_succ _) (ext_is K4.2 (Nat.zero_lt_succ _) (ext_is K2.2 (Nat.zero_lt_succ _) (ext_is K0.2 (Nat.zero_lt_succ _) n_a0))))))
  refine gd_c f11 ?_
  refine gd_b (gX97_lines _ _ _ _ _ h.2.2.2.2.2.2.1) (fun K12 => ?_)
  have f13 := (ext_is K12.2 (Nat.zero_lt_succ _) (ext_is K10.2 (Nat.zero_lt_succ _) (ext_is K8.2 (Nat.zero_lt_succ _) (ext_is K6.2 (Nat.zero_lt_succ _) (ext_is K4.2 (Nat.zero_lt_succ _) (ext_is K2.2 (Nat.zero_lt_succ _) (ext_is K0.2 (Nat.zero_lt_succ _) n_a0)))))))
  refine gd_c f13 ?_
  have f80 := (ext_is K12.2 (Nat.zero_lt_succ _) (ext_is K10.2 (Nat.zero_lt_succ _) (ext_is K8.2 (Nat.zero_lt_succ _) (ext_is K6.2 (Nat.zero_lt_succ _) (ext_is K4.2 (Nat.zero_lt_succ _) (ext_is K2.2 (Nat.zero_lt_succ _) (ext_is K0.2 (Nat.zero_lt_succ _) n_a0)))))))
  refine gd_b (gX97_region _ _ _ _ ⟨K12.1.1, K12.1.2⟩ f80 h.2.2.2.2.2.2.2.1) (fun K14 => ?_)
  have f15 := (ext_is K14.2 (Nat.zero_lt_succ _) (ext_is K12.2 (Nat.zero_lt_succ _) (ext_is K10.2 (Nat.zero_lt_succ _) (ext_is K8.2 (Nat.zero_lt_succ _) (ext_is K6.2 (Nat.zero_lt_succ _) (ext_is K4.2 (Nat.zero_lt_succ _) (ext_is K2.2 (Nat.zero_lt_succ _) (ext_is K0.2 (Nat.zero_lt_succ _) n_a0))))))))
  refine gd_c f15 ?_
  have f79 := (ext_is K14.2 (Nat.zero_lt_succ _) (ext_is K12.2 (Nat.zero_lt_succ _) (ext_is K10.2 (Nat.zero_lt_succ _) (ext_is K8.2 (Nat.zero_lt_succ _) (ext_is K6.2 (Nat.zero_lt_succ _) (ext_is K4.2 (Nat.zero_lt_succ _) (ext_is K2.2 (Nat.zero_lt_succ _) (ext_is K0.2 (Nat.zero_lt_succ _) n_a0))))))))
  refine gd_b (gX97_done _ _ ⟨K14.1.1, K14.1.2⟩ f79 h.2.2.2.2.2.2.2.2.1) (fun K16 => ?_)
  have f17 := (ext_is K16.2 (Nat.zero_lt_succ _) (ext_is K14.2 (Nat.zero_lt_succ _) (ext_is K12.2 (Nat.zero_lt_succ _) (ext_is K10.2 (Nat.zero_lt_succ _) (ext_is K8.2 (Nat.zero_lt_succ _) (ext_is K6.2 (Nat.zero_lt_succ _) (ext_is K4.2 (Nat.zero_lt_succ _) (ext_is K2.2 (Nat.zero_lt_succ _) (ext_is K0.2 (Nat.zero_lt_succ _) n_a0)))))))))
  refine gd_c f17 ?_
  have f78 := (ext_is K16.2 (Nat.zero_lt_succ _) (ext_is K14.2 (Nat.zero_lt_succ _) (ext_is K12.2 (Nat.zero_lt_succ _) (ext_is K10.2 (Nat.zero_lt_succ _) (ext_is K8.2 (Nat.zero_lt_succ _) (ext_is K6.2 (Nat.zero_lt_succ _) (ext_is K4.2 (Nat.zero_lt_succ _) (ext_is K2.2 (Nat.zero_lt_succ _) (ext_is K0.2 (Nat.zero_lt_succ _) n_a0)))))))))
  refine gd_b (gX97_node _ _ _ ⟨K16.1.1, K16.1.2⟩ f78 h.2.2.2.2.2.2.2.2.2.1) (fun K18 => ?_)
  have f19 := (ext_is K18.2 (Nat.zero_lt_succ _) (ext_is K16.2 (Nat.zero_lt_succ _) (ext_is K14.2 (Nat.zero_lt_succ _) (ext_is K12.2 (Nat.zero_lt_succ _) (ext_is K10.2 (Nat.zero_lt_succ _) (ext_is K8.2 (Nat.zero_lt_succ _) (ext_is K6.2 (Nat.zero_lt_succ _) (ext_is K4.2 (Nat.zero_lt_succ _) (ext_is K2.2 (Nat.zero_lt_succ _) (ext_is K0.2 (Nat.zero_lt_succ _) n_a0))))))))))
  refine gd_c f19 ?_
  have f77 := (ext_is K18.2 (Nat.zero_lt_succ _) (ext_is K16.2 (Nat.zero_lt_succ _) (ext_is K14.2 (Nat.zero_lt_succ _) (ext_is K12.2 (Nat.zero_lt_succ _) (ext_is K10.2 (Nat.zero_lt_succ _) (ext_is K8.2 (Nat.zero_lt_succ _) (ext_is K6.2 (Nat.zero_lt_succ _) (ext_is K4.2 (Nat.zero_lt_succ _) (ext_is K2.2 (Nat.zero_lt_succ _) (ext_is K0.2 (Nat.zero_lt_succ _) n_a0))))))))))
  refine gd_b (gX97_number _ _ _ _ ⟨K18.1.1, K18.1.2⟩ f77 h.2.2.2.2.2.2.2.2.2.2.1) (fun K20 => ?_)
  have f21 := (ext_is K20.2 (Nat.zero_lt_succ _) (ext_is K18.2 (Nat.zero_lt_succ _) (ext_is K16.2 (Nat.zero_lt_succ _) (ext_is K14.2 (Nat.zero_lt_succ _) (ext_is K12.2 (Nat.zero_lt_succ _) (ext_is K10.2 (Nat.zero_lt_succ _) (ext_is K8.2 (Nat.zero_lt_succ _) (ext_is K6.2 (Nat.zero_lt_succ _) (ext_is K4.2 (Nat.zero_lt_succ _) (ext_is K2.2 (Nat.zero_lt_succ _) (ext_is K0.2 (Nat.zero_lt_succ _) n_a0)))))))))))
  refine gd_c f21 ?_
  have f76 := (ext_is K20.2 (Nat.zero_lt_succ _) (ext_is K18.2 (Nat.zero_lt_succ _) (ext_is K16.2 (Nat.zero_lt_succ _) (ext_is K14.2 (Nat.zero_lt_succ _) (ext_is K12.2 (Nat.zero_lt_succ _) (ext_is K10.2 (Nat.zero_lt_succ _) (ext_is K8.2 (Nat.zero_lt_succ _) (ext_is K6.2 (Nat.zero_lt_succ _) (ext_is K4.2 (Nat.zero_lt_succ _) (ext_is K2.2 (Nat.zero_lt_succ _) (ext_is K0.2 (Nat.zero_lt_succ _) n_a0)))))))))))
  refine gd_b (gX97_nothing _ _ _ ⟨K20.1.1, K20.1.2⟩ f76 h.2.2.2.2.2.2.2.2.2.2.2.1) (fun K22 => ?_)
  have f23 := (ext_is K22.2 (Nat.zero_lt_succ _) (ext_is K20.2 (Nat.zero_lt_succ _) (ext_is K18.2 (Nat.zero_lt_succ _) (ext_is K16.2 (Nat.zero_lt_succ _) (ext_is K14.2 (Nat.zero_lt_succ _) (ext_is K12.2 (Nat.zero_lt_succ _) (ext_is K10.2 (Nat.zero_lt_succ _) (ext_is K8.2 (Nat.zero_lt_succ _) (ext_is K6.2 (Nat.zero_lt_succ _) (ext_is K4.2 (Nat.zero_lt_succ _) (ext_is K2.2 (Nat.zero_lt_succ _) (ext_is K0.2 (Nat.zero_lt_succ _) n_a0))))))))))))
  refine gd_c f23 ?_
  have f75 := (ext_is K22.2 (Nat.zero_lt_succ _) (ext_is K20.2 (Nat.zero_lt_succ _) (ext_is K18.2 (Nat.zero_lt_succ _) (ext_is K16.2 (Nat.zero_lt_succ _) (ext_is K14.2 (Nat.zero_lt_succ _) (ext_is K12.2 (Nat.zero_lt_succ _) (ext_is K10.2 (Nat.zero_lt_succ _) (ext_is K8.2 (Nat.zero_lt_succ _) (ext_is K6.2 (Nat.zero_lt_succ _) (ext_is K4.2 (Nat.zero_lt_succ _) (ext_is K2.2 (Nat.zero_lt_succ _) (ext_is K0.2 (Nat.zero_lt_succ _) n_a0))))))))))))
  refine gd_b (gX97_text _ _ _ _ ⟨K22.1.1, K22.1.2⟩ f75 h.2.2.2.2.2.2.2.2.2.2.2.2.1) (fun K24 => ?_)
  have f25 := (ext_is K24.2 (Nat.zero_lt_succ _) (ext_is K22.2 (Nat.zero_lt_succ _) (ext_is K20.2 (Nat.zero_lt_succ _) (ext_is K18.2 (Nat.zero_lt_succ _) (ext_is K16.2 (Nat.zero_lt_succ _) (ext_is K14.2 (Nat.zero_lt_succ _) (ext_is K12.2 (Nat.zero_lt_succ _) (ext_is K10.2 (Nat.zero_lt_succ _) (ext_is K8.2 (Nat.zero_lt_succ _) (ext_is K6.2 (Nat.zero_lt_succ _) (ext_is K4.2 (Nat.zero_lt_succ _) (ext_is K2.2 (Nat.zero_lt_succ _) (ext_is K0.2 (Nat.zero_lt_succ _) n_a0)))))))))))))
  refine gd_c f25 ?_
  refine gd_b (gX97_lines _ _ _ _ _ h.2.2.2.2.2.2.2.2.2.2.2.2.2.1) (fun K26 => ?_)
  have f27 := (ext_is K26.2 (Nat.zero_lt_succ _) (ext_is K24.2 (Nat.zero_lt_succ _) (ext_is K22.2 (Nat.zero_lt_succ _) (ext_is K20.2 (Nat.zero_lt_succ _) (ext_is K18.2 (Nat.zero_lt_succ _) (ext_is K16.2 (Nat.zero_lt_succ _) (ext_is K14.2 (Nat.zero_lt_succ _) (ext_is K12.2 (Nat.zero_lt_succ _) (ext_is K10.2 (Nat.zero_lt_succ _) (ext_is K8.2 (Nat.zero_lt_succ _) (ext_is K6.2 (Nat.zero_lt_succ _) (ext_is K4.2 (Nat.zero_lt_succ _) (ext_is K2.2 (Nat.zero_lt_succ _) (ext_is K0.2 (Nat.zero_lt_succ _) n_a0))))))))))))))
  refine gd_c f27 ?_
  have f74 := (ext_is K26.2 (Nat.zero_lt_succ _) (ext_is K24.2 (Nat.zero_lt_succ _) (ext_is K22.2 (Nat.zero_lt_succ _) (ext_is K20.2 (Nat.zero_lt_succ _) (ext_is K18.2 (Nat.zero_lt_succ _) (ext_is K16.2 (Nat.zero_lt_succ _) (ext_is K14.2 (Nat.zero_lt_succ _) (ext_is K12.2 (Nat.zero_lt_succ _) (ext_is K10.2 (Nat.zero_lt_succ _) (ext_is K8.2 (Nat.zero_lt_succ _) (ext_is K6.2 (Nat.zero_lt_succ _) (ext_is K4.2 (Nat.zero_lt_succ _) (ext_is K2.2 (Nat.zero_lt_succ _) (ext_is K0.2 (Nat.zero_lt_succ _) n_a0))))))))))))))
  refine gd_b (gX97_region _ _ _ _ ⟨K26.1.1, K26.1.2⟩ f74 h.2.2.2.2.2.2.2.2.2.2.2.2.2.2.1) (fun K28 => ?_)
  have f29 := (ext_is K28.2 (Nat.zero_lt_succ _) (ext_is K26.2 (Nat.zero_lt_succ _) (ext_is K24.2 (Nat.zero_lt_succ _) (ext_is K22.2 (Nat.zero_lt_succ _) (ext_is K20.2 (Nat.zero_lt_succ _) (ext_is K18.2 (Nat.zero_lt_succ _) (ext_is K16.2 (Nat.zero_lt_succ _) (ext_is K14.2 (Nat.zero_lt_succ _) (ext_is K12.2 (Nat.zero_lt_succ _) (ext_is K10.2 (Nat.zero_lt_succ _) (ext_is K8.2 (Nat.zero_lt_succ _) (ext_is K6.2 (Nat.zero_lt_succ _) (ext_is K4.2 (Nat.zero_lt_succ _) (ext_is K2.2 (Nat.zero_lt_succ _) (ext_is K0.2 (Nat.zero_lt_succ _) n_a0)))))))))))))))
  refine gd_c f29 ?_
  have f73 := (ext_is K28.2 (Nat.zero_lt_succ _) (ext_is K26.2 (Nat.zero_lt_succ _) (ext_is K24.2 (Nat.zero_lt_succ _) (ext_is K22.2 (Nat.zero_lt_succ _) (ext_is K20.2 (Nat.zero_lt_succ _) (ext_is K18.2 (Nat.zero_lt_succ _) (ext_is K16.2 (Nat.zero_lt_succ _) (ext_is K14.2 (Nat.zero_lt_succ _) (ext_is K12.2 (Nat.zero_lt_succ _) (ext_is K10.2 (Nat.zero_lt_succ _) (ext_is K8.2 (Nat.zero_lt_succ _) (ext_is K6.2 (Nat.zero_lt_succ _) (ext_is K4.2 (Nat.zero_lt_succ _) (ext_is K2.2 (Nat.zero_lt_succ _) (ext_is K0.2 (Nat.zero_lt_succ _) n_a0)))))))))))))))
  refine gd_b (gX97_number _ _ _ _ ⟨K28.1.1, K28.1.2⟩ f73 h.2.2.2.2.2.2.2.2.2.2.2.2.2.2.2.1) (fun K30 => ?_)
  have f31 := (ext_is K30.2 (Nat.zero_lt_succ _) (ext_is K28.2 (Nat.zero_lt_succ _) (ext_is K26.2 (Nat.zero_lt_succ _) (ext_is K24.2 (Nat.zero_lt_succ _) (ext_is K22.2 (Nat.zero_lt_succ _) (ext_is K20.2 (Nat.zero_lt_succ _) (ext_is K18.2 (Nat.zero_lt_succ _) (ext_is K16.2 (Nat.zero_lt_succ _) (ext_is K14.2 (Nat.zero_lt_succ _) (ext_is K12.2 (Nat.zero_lt_succ _) (ext_is K10.2 (Nat.zero_lt_succ _) (ext_is K8.2 (Nat.zero_lt_succ _) (ext_is K6.2 (Nat.zero_lt_succ _) (ext_is K4.2 (Nat.zero_lt_succ _) (ext_is K2.2 (Nat.zero_lt_succ _) (ext_is K0.2 (Nat.zero_lt_succ _) n_a0))))))))))))))))
  refine gd_c f31 ?_
  have f72 := (ext_is K30.2 (Nat.zero_lt_succ _) (ext_is K28.2 (Nat.zero_lt_succ _) (ext_is K26.2 (Nat.zero_lt_succ _) (ext_is K24.2 (Nat.zero_lt_succ _) (ext_is K22.2 (Nat.zero_lt_succ _) (ext_is K20.2 (Nat.zero_lt_succ _) (ext_is K18.2 (Nat.zero_lt_succ _) (ext_is K16.2 (Nat.zero_lt_succ _) (ext_is K14.2 (Nat.zero_lt_succ _) (ext_is K12.2 (Nat.zero_lt_succ _) (ext_is K10.2 (Nat.zero_lt_succ _) (ext_is K8.2 (Nat.zero_lt_succ _) (ext_is K6.2 (Nat.zero_lt_succ _) (ext_is K4.2 (Nat.zero_lt_succ _) (ext_is K2.2 (Nat.zero_lt_succ _) (ext_is K0.2 (Nat.zero_lt_succ _) n_a0))))))))))))))))
  refine gd_b (gX97_number _ _ _ _ ⟨K30.1.1, K30.1.2⟩ f72 h.2.2.2.2.2.2.2.2.2.2.2.2.2.2.2.2.1) (fun K32 => ?_)
  have f33 := (ext_is K32.2 (Nat.zero_lt_succ _) (ext_is K30.2 (Nat.zero_lt_succ _) (ext_is K28.2 (Nat.zero_lt_succ _) (ext_is K26.2 (Nat.zero_lt_succ _) (ext_is K24.2 (Nat.zero_lt_succ _) (ext_is K22.2 (Nat.zero_lt_succ _) (ext_is K20.2 (Nat.zero_lt_succ _) (ext_is K18.2 (Nat.zero_lt_succ _) (ext_is K16.2 (Nat.zero_lt_succ _) (ext_is K14.2 (Nat.zero_lt_succ _) (ext_is K12.2 (Nat.zero_lt_succ _) (ext_is K10.2 (Nat.zero_lt_succ _) (ext_is K8.2 (Nat.zero_lt_succ _) (ext_is K6.2 (Nat.zero_lt_succ _) (ext_is K4.2 (Nat.zero_lt_succ _) (ext_is K2.2 (Nat.zero_lt_succ _) (ext_is K0.2 (Nat.zero_lt_succ _) n_a0)))))))))))))))))
  refine gd_c f33 ?_
  have f71 := (ext_is K32.2 (Nat.zero_lt_succ _) (ext_is K30.2 (Nat.zero_lt_succ _) (ext_is K28.2 (Nat.zero_lt_succ _) (ext_is K26.2 (Nat.zero_lt_succ _) (ext_is K24.2 (Nat.zero_lt_succ _) (ext_is K22.2 (Nat.zero_lt_succ _) (ext_is K20.2 (Nat.zero_lt_succ _) (ext_is K18.2 (Nat.zero_lt_succ _) (ext_is K16.2 (Nat.zero_lt_succ _) (ext_is K14.2 (Nat.zero_lt_succ _) (ext_is K12.2 (Nat.zero_lt_succ _) (ext_is K10.2 (Nat.zero_lt_succ _) (ext_is K8.2 (Nat.zero_lt_succ _) (ext_is K6.2 (Nat.zero_lt_succ _) (ext_is K4.2 (Nat.zero_lt_succ _) (ext_is K2.2 (Nat.zero_lt_succ _) (ext_is K0.2 (Nat.zero_lt_succ _) n_a0)))))))))))))))))
  refine gd_b (gX97_done _ _ ⟨K32.1.1, K32.1.2⟩ f71 h.2.2.2.2.2.2.2.2.2.2.2.2.2.2.2.2.2.1) (fun K34 => ?_)
  have f35 := (ext_is K34.2 (Nat.zero_lt_succ _) (ext_is K32.2 (Nat.zero_lt_succ _) (ext_is K30.2 (Nat.zero_lt_succ _) (ext_is K28.2 (Nat.zero_lt_succ _) (ext_is K26.2 (Nat.zero_lt_succ _) (ext_is K24.2 (Nat.zero_lt_succ _) (ext_is K22.2 (Nat.zero_lt_succ _) (ext_is K20.2 (Nat.zero_lt_succ _) (ext_is K18.2 (Nat.zero_lt_succ _) (ext_is K16.2 (Nat.zero_lt_succ _) (ext_is K14.2 (Nat.zero_lt_succ _) (ext_is K12.2 (Nat.zero_lt_succ _) (ext_is K10.2 (Nat.zero_lt_succ _) (ext_is K8.2 (Nat.zero_lt_succ _) (ext_is K6.2 (Nat.zero_lt_succ _) (ext_is K4.2 (Nat.zero_lt_succ _) (ext_is K2.2 (Nat.zero_lt_succ _) (ext_is K0.2 (Nat.zero_lt_succ _) n_a0))))))))))))))))))
  refine gd_c f35 ?_
  have f70 := (ext_is K34.2 (Nat.zero_lt_succ _) (ext_is K32.2 (Nat.zero_lt_succ _) (ext_is K30.2 (Nat.zero_lt_succ _) (ext_is K28.2 (Nat.zero_lt_succ _) (ext_is K26.2 (Nat.zero_lt_succ _) (ext_is K24.2 (Nat.zero_lt_succ _) (ext_is K22.2 (Nat.zero_lt_succ _) (ext_is K20.2 (Nat.zero_lt_succ _) (ext_is K18.2 (Nat.zero_lt_succ _) (ext_is K16.2 (Nat.zero_lt_succ _) (ext_is K14.2 (Nat.zero_lt_succ _) (ext_is K12.2 (Nat.zero_lt_succ _) (ext_is K10.2 (Nat.zero_lt_succ _) (ext_is K8.2 (Nat.zero_lt_succ _) (ext_is K6.2 (Nat.zero_lt_succ _) (ext_is K4.2 (Nat.zero_lt_succ _) (ext_is K2.2 (Nat.zero_lt_succ _) (ext_is K0.2 (Nat.zero_lt_succ _) n_a0))))))))))))))))))
  refine gd_b (gX97_node _ _ _ ⟨K34.1.1, K34.1.2⟩ f70 h.2.2.2.2.2.2.2.2.2.2.2.2.2.2.2.2.2.2.1) (fun K36 => ?_)
  have f37 := (ext_is K36.2 (Nat.zero_lt_succ _) (ext_is K34.2 (Nat.zero_lt_succ _) (ext_is K32.2 (Nat.zero_lt_succ _) (ext_is K30.2 (Nat.zero_lt_succ _) (ext_is K28.2 (Nat.zero_lt_succ _) (ext_is K26.2 (Nat.zero_lt_succ _) (ext_is K24.2 (Nat.zero_lt_succ _) (ext_is K22.2 (Nat.zero_lt_succ _) (ext_is K20.2 (Nat.zero_lt_succ _) (ext_is K18.2 (Nat.zero_lt_succ _) (ext_is K16.2 (Nat.zero_lt_succ _) (ext_is K14.2 (Nat.zero_lt_succ _) (ext_is K12.2 (Nat.zero_lt_succ _) (ext_is K10.2 (Nat.zero_lt_succ _) (ext_is K8.2 (Nat.zero_lt_succ _) (ext_is K6.2 (Nat.zero_lt_succ _) (ext_is K4.2 (Nat.zero_lt_succ _) (ext_is K2.2 (Nat.zero_lt_succ _) (ext_is K0.2 (Nat.zero_lt_succ _) n_a0)))))))))))))))))))
  refine gd_c f37 ?_
  have f69 := (ext_is K36.2 (Nat.zero_lt_succ _) (ext_is K34.2 (Nat.zero_lt_succ _) (ext_is K32.2 (Nat.zero_lt_succ _) (ext_is K30.2 (Nat.zero_lt_succ _) (ext_is K28.2 (Nat.zero_lt_succ _) (ext_is K26.2 (Nat.zero_lt_succ _) (ext_is K24.2 (Nat.zero_lt_succ _) (ext_is K22.2 (Nat.zero_lt_succ _) (ext_is K20.2 (Nat.zero_lt_succ _) (ext_is K18.2 (Nat.zero_lt_succ _) (ext_is K16.2 (Nat.zero_lt_succ _) (ext_is K14.2 (Nat.zero_lt_succ _) (ext_is K12.2 (Nat.zero_lt_succ _) (ext_is K10.2 (Nat.zero_lt_succ _) (ext_is K8.2 (Nat.zero_lt_succ _) (ext_is K6.2 (Nat.zero_lt_succ _) (ext_is K4.2 (Nat.zero_lt_succ _) (ext_is K2.2 (Nat.zero_lt_succ _) (ext_is K0.2 (Nat.zero_lt_succ _) n_a0)))))))))))))))))))
  refine gd_b (gX97_text _ _ _ _ ⟨K36.1.1, K36.1.2⟩ f69 h.2.2.2.2.2.2.2.2.2.2.2.2.2.2.2.2.2.2.2.1) (fun K38 => ?_)
  have f39 := (ext_is K38.2 (Nat.zero_lt_succ _) (ext_is K36.2 (Nat.zero_lt_succ _) (ext_is K34.2 (Nat.zero_lt_succ _) (ext_is K32.2 (Nat.zero_lt_succ _) (ext_is K30.2 (Nat.zero_lt_succ _) (ext_is K28.2 (Nat.zero_lt_succ _) (ext_is K26.2 (Nat.zero_lt_succ _) (ext_is K24.2 (Nat.zero_lt_succ _) (ext_is K22.2 (Nat.zero_lt_succ _) (ext_is K20.2 (Nat.zero_lt_succ _) (ext_is K18.2 (Nat.zero_lt_succ _) (ext_is K16.2 (Nat.zero_lt_succ _) (ext_is K14.2 (Nat.zero_lt_succ _) (ext_is K12.2 (Nat.zero_lt_succ _) (ext_is K10.2 (Nat.zero_lt_succ _) (ext_is K8.2 (Nat.zero_lt_succ _) (ext_is K6.2 (Nat.zero_lt_succ _) (ext_is K4.2 (Nat.zero_lt_succ _) (ext_is K2.2 (Nat.zero_lt_succ _) (ext_is K0.2 (Nat.zero_lt_succ _) n_a0))))))))))))))))))))
  refine gd_c f39 ?_
  have f68 := (ext_is K38.2 (Nat.zero_lt_succ _) (ext_is K36.2 (Nat.zero_lt_succ _) (ext_is K34.2 (Nat.zero_lt_succ _) (ext_is K32.2 (Nat.zero_lt_succ _) (ext_is K30.2 (Nat.zero_lt_succ _) (ext_is K28.2 (Nat.zero_lt_succ _) (ext_is K26.2 (Nat.zero_lt_succ _) (ext_is K24.2 (Nat.zero_lt_succ _) (ext_is K22.2 (Nat.zero_lt_succ _) (ext_is K20.2 (Nat.zero_lt_succ _) (ext_is K18.2 (Nat.zero_lt_succ _) (ext_is K16.2 (Nat.zero_lt_succ _) (ext_is K14.2 (Nat.zero_lt_succ _) (ext_is K12.2 (Nat.zero_lt_succ _) (ext_is K10.2 (Nat.zero_lt_succ _) (ext_is K8.2 (Nat.zero_lt_succ _) (ext_is K6.2 (Nat.zero_lt_succ _) (ext_is K4.2 (Nat.zero_lt_succ _) (ext_is K2.2 (Nat.zero_lt_succ _) (ext_is K0.2 (Nat.zero_lt_succ _) n_a0))))))))))))))))))))
  refine gd_b (gX97_region _ _ _ _ ⟨K38.1.1, K38.1.2⟩ f68 h.2.2.2.2.2.2.2.2.2.2.2.2.2.2.2.2.2.2.2.2.1) (fun K40 => ?_)
  have f41 := (ext_is K40.2 (Nat.zero_lt_succ _) (ext_is K38.2 (Nat.zero_lt_succ _) (ext_is K36.2 (Nat.zero_lt_succ _) (ext_is K34.2 (Nat.zero_lt_succ _) (ext_is K32.2 (Nat.zero_lt_succ _) (ext_is K30.2 (Nat.zero_lt_succ _) (ext_is K28.2 (Nat.zero_lt_succ _) (ext_is K26.2 (Nat.zero_lt_succ _) (ext_is K24.2 (Nat.zero_lt_succ _) (ext_is K22.2 (Nat.zero_lt_succ _) (ext_is K20.2 (Nat.zero_lt_succ _) (ext_is K18.2 (Nat.zero_lt_succ _) (ext_is K16.2 (Nat.zero_lt_succ _) (ext_is K14.2 (Nat.zero_lt_succ _) (ext_is K12.2 (Nat.zero_lt_succ _) (ext_is K10.2 (Nat.zero_lt_succ _) (ext_is K8.2 (Nat.zero_lt_succ _) (ext_is K6.2 (Nat.zero_lt_succ _) (ext_is K4.2 (Nat.zero_lt_succ _) (ext_is K2.2 (Nat.zero_lt_succ _) (ext_is K0.2 (Nat.zero_lt_succ _) n_a0)))))))))))))))))))))
  refine gd_c f41 ?_
  have f67 := (ext_is K40.2 (Nat.zero_lt_succ _) (ext_is K38.2 (Nat.zero_lt_succ _) (ext_is K36.2 (Nat.zero_lt_succ _) (ext_is K34.2 (Nat.zero_lt_succ _) (ext_is K32.2 (Nat.zero_lt_succ _) (ext_is K30.2 (Nat.zero_lt_succ _) (ext_is K28.2 (Nat.zero_lt_succ _) (ext_is K26.2 (Nat.zero_lt_succ _) (ext_is K24.2 (Nat.zero_lt_succ _) (ext_is K22.2 (Nat.zero_lt_succ _) (ext_is K20.2 (Nat.zero_lt_succ _) (ext_is K18.2 (Nat.zero_lt_succ _) (ext_is K16.2 (Nat.zero_lt_succ _) (ext_is K14.2 (Nat.zero_lt_succ _) (ext_is K12.2 (Nat.zero_lt_succ _) (ext_is K10.2 (Nat.zero_lt_succ _) (ext_is K8.2 (Nat.zero_lt_succ _) (ext_is K6.2 (Nat.zero_lt_succ _) (ext_is K4.2 (Nat.zero_lt_succ _) (ext_is K2.2 (Nat.zero_lt_succ _) (ext_is K0.2 (Nat.zero_lt_succ _) n_a0)))))))))))))))))))))
  refine gd_b (gX97_number _ _ _ _ ⟨K40.1.1, K40.1.2⟩ f67 h.2.2.2.2.2.2.2.2.2.2.2.2.2.2.2.2.2.2.2.2.2.1) (fun K42 => ?_)
  have f43 := (ext_is K42.2 (Nat.zero_lt_succ _) (ext_is K40.2 (Nat.zero_lt_succ _) (ext_is K38.2 (Nat.zero_lt_succ _) (ext_is K36.2 (Nat.zero_lt_succ _) (ext_is K34.2 (Nat.zero_lt_succ _) (ext_is K32.2 (Nat.zero_lt_succ _) (ext_is K30.2 (Nat.zero_lt_succ _) (ext_is K28.2 (Nat.zero_lt_succ _) (ext_is K26.2 (Nat.zero_lt_succ _) (ext_is K24.2 (Nat.zero_lt_succ _) (ext_is K22.2 (Nat.zero_lt_succ _) (ext_is K20.2 (Nat.zero_lt_succ _) (ext_is K18.2 (Nat.zero_lt_succ _) (ext_is K16.2 (Nat.zero_lt_succ _) (ext_is K14.2 (Nat.zero_lt_succ _) (ext_is K12.2 (Nat.zero_lt_succ _) (ext_is K10.2 (Nat.zero_lt_succ _) (ext_is K8.2 (Nat.zero_lt_succ _) (ext_is K6.2 (Nat.zero_lt_succ _) (ext_is K4.2 (Nat.zero_lt_succ _) (ext_is K2.2 (Nat.zero_lt_succ _) (ext_is K0.2 (Nat.zero_lt_succ _) n_a0))))))))))))))))))))))
  refine gd_c f43 ?_
  have f66 := (ext_is K42.2 (Nat.zero_lt_succ _) (ext_is K40.2 (Nat.zero_lt_succ _) (ext_is K38.2 (Nat.zero_lt_succ _) (ext_is K36.2 (Nat.zero_lt_succ _) (ext_is K34.2 (Nat.zero_lt_succ _) (ext_is K32.2 (Nat.zero_lt_succ _) (ext_is K30.2 (Nat.zero_lt_succ _) (ext_is K28.2 (Nat.zero_lt_succ _) (ext_is K26.2 (Nat.zero_lt_succ _) (ext_is K24.2 (Nat.zero_lt_succ _) (ext_is K22.2 (Nat.zero_lt_succ _) (ext_is K20.2 (Nat.zero_lt_succ _) (ext_is K18.2 (Nat.zero_lt_succ _) (ext_is K16.2 (Nat.zero_lt_succ _) (ext_is K14.2 (Nat.zero_lt_succ _) (ext_is K12.2 (Nat.zero_lt_succ _) (ext_is K10.2 (Nat.zero_lt_succ _) (ext_is K8.2 (Nat.zero_lt_succ _) (ext_is K6.2 (Nat.zero_lt_succ _) (ext_is K4.2 (Nat.zero_lt_succ _) (ext_is K2.2 (Nat.zero_lt_succ _) (ext_is K0.2 (Nat.zero_lt_succ _) n_a0))))))))))))))))))))))
  refine gd_b (gX97_number _ _ _ _ ⟨K42.1.1, K42.1.2⟩ f66 h.2.2.2.2.2.2.2.2.2.2.2.2.2.2.2.2.2.2.2.2.2.2.1) (fun K44 => ?_)
  have f45 := (ext_is K44.2 (Nat.zero_lt_succ _) (ext_is K42.2 (Nat.zero_lt_succ _) (ext_is K40.2 (Nat.zero_lt_succ _) (ext_is K38.2 (Nat.zero_lt_succ _) (ext_is K36.2 (Nat.zero_lt_succ _) (ext_is K34.2 (Nat.zero_lt_succ _) (ext_is K32.2 (Nat.zero_lt_succ _) (ext_is K30.2 (Nat.zero_lt_succ _) (ext_is K28.2 (Nat.zero_lt_succ _) (ext_is K26.2 (Nat.zero_lt_succ _) (ext_is K24.2 (Nat.zero_lt_succ _) (ext_is K22.2 (Nat.zero_lt_succ _) (ext_is K20.2 (Nat.zero_lt_succ _) (ext_is K18.2 (Nat.zero_lt_succ _) (ext_is K16.2 (Nat.zero_lt_succ _) (ext_is K14.2 (Nat.zero_lt_succ _) (ext_is K12.2 (Nat.zero_lt_succ _) (ext_is K10.2 (Nat.zero_lt_succ _) (ext_is K8.2 (Nat.zero_lt_succ _) (ext_is K6.2 (Nat.zero_lt_succ _) (ext_is K4.2 (Nat.zero_lt_succ _) (ext_is K2.2 (Nat.zero_lt_succ _) (ext_is K0.2 (Nat.zero_lt_succ _) n_a0)))))))))))))))))))))))
  refine gd_c f45 ?_
  have f65 := (ext_is K44.2 (Nat.zero_lt_succ _) (ext_is K42.2 (Nat.zero_lt_succ _) (ext_is K40.2 (Nat.zero_lt_succ _) (ext_is K38.2 (Nat.zero_lt_succ _) (ext_is K36.2 (Nat.zero_lt_succ _) (ext_is K34.2 (Nat.zero_lt_succ _) (ext_is K32.2 (Nat.zero_lt_succ _) (ext_is K30.2 (Nat.zero_lt_succ _) (ext_is K28.2 (Nat.zero_lt_succ _) (ext_is K26.2 (Nat.zero_lt_succ _) (ext_is K24.2 (Nat.zero_lt_succ _) (ext_is K22.2 (Nat.zero_lt_succ _) (ext_is K20.2 (Nat.zero_lt_succ _) (ext_is K18.2 (Nat.zero_lt_succ _) (ext_is K16.2 (Nat.zero_lt_succ _) (ext_is K14.2 (Nat.zero_lt_succ _) (ext_is K12.2 (Nat.zero_lt_succ _) (ext_is K10.2 (Nat.zero_lt_succ _) (ext_is K8.2 (Nat.zero_lt_succ _) (ext_is K6.2 (Nat.zero_lt_succ _) (ext_is K4.2 (Nat.zero_lt_succ _) (ext_is K2.2 (Nat.zero_lt_succ _) (ext_is K0.2 (Nat.zero_lt_succ _) n_a0)))))))))))))))))))))))
  refine gd_b (gX97_done _ _ ⟨K44.1.1, K44.1.2⟩ f65 h.2.2.2.2.2.2.2.2.2.2.2.2.2.2.2.2.2.2.2.2.2.2.2.1) (fun K46 => ?_)
  have f47 := (ext_is K46.2 (Nat.zero_lt_succ _) (ext_is K44.2 (Nat.zero_lt_succ _) (ext_is K42.2 (Nat.zero_lt_succ _) (ext_is K40.2 (Nat.zero_lt_succ _) (ext_is K38.2 (Nat.zero_lt_succ _) (ext_is K36.2 (Nat.zero_lt_succ _) (ext_is K34.2 (Nat.zero_lt_succ _) (ext_is K32.2 (Nat.zero_lt_succ _) (ext_is K30.2 (Nat.zero_lt_succ _) (ext_is K28.2 (Nat.zero_lt_succ _) (ext_is K26.2 (Nat.zero_lt_succ _) (ext_is K24.2 (Nat.zero_lt_succ _) (ext_is K22.2 (Nat.zero_lt_succ _) (ext_is K20.2 (Nat.zero_lt_succ _) (ext_is K18.2 (Nat.zero_lt_succ _) (ext_is K16.2 (Nat.zero_lt_succ _) (ext_is K14.2 (Nat.zero_lt_succ _) (ext_is K12.2 (Nat.zero_lt_succ _) (ext_is K10.2 (Nat.zero_lt_succ _) (ext_is K8.2 (Nat.zero_lt_succ _) (ext_is K6.2 (Nat.zero_lt_succ _) (ext_is K4.2 (Nat.zero_lt_succ _) (ext_is K2.2 (Nat.zero_lt_succ _) (ext_is K0.2 (Nat.zero_lt_succ _) n_a0))))))))))))))))))))))))
  refine gd_c f47 ?_
  have f64 := (ext_is K46.2 (Nat.zero_lt_succ _) (ext_is K44.2 (Nat.zero_lt_succ _) (ext_is K42.2 (Nat.zero_lt_succ _) (ext_is K40.2 (Nat.zero_lt_succ _) (ext_is K38.2 (Nat.zero_lt_succ _) (ext_is K36.2 (Nat.zero_lt_succ _) (ext_is K34.2 (Nat.zero_lt_succ _) (ext_is K32.2 (Nat.zero_lt_succ _) (ext_is K30.2 (Nat.zero_lt_succ _) (ext_is K28.2 (Nat.zero_lt_succ _) (ext_is K26.2 (Nat.zero_lt_succ _) (ext_is K24.2 (Nat.zero_lt_succ _) (ext_is K22.2 (Nat.zero_lt_succ _) (ext_is K20.2 (Nat.zero_lt_succ _) (ext_is K18.2 (Nat.zero_lt_succ _) (ext_is K16.2 (Nat.zero_lt_succ _) (ext_is K14.2 (Nat.zero_lt_succ _) (ext_is K12.2 (Nat.zero_lt_succ _) (ext_is K10.2 (Nat.zero_lt_succ _) (ext_is K8.2 (Nat.zero_lt_succ _) (ext_is K6.2 (Nat.zero_lt_succ _) (ext_is K4.2 (Nat.zero_lt_succ _) (ext_is K2.2 (Nat.zero_lt_succ _) (ext_is K0.2 (Nat.zero_lt_succ _) n_a0))))))))))))))))))))))))
  refine gd_b (gX97_node _ _ _ ⟨K46.1.1, K46.1.2⟩ f64 h.2.2.2.2.2.2.2.2.2.2.2.2.2.2.2.2.2.2.2.2.2.2.2.2.1) (fun K48 => ?_)
  have f49 := (ext_is K48.2 (Nat.zero_lt_succ _) (ext_is K46.2 (Nat.zero_lt_succ _) (ext_is K44.2 (Nat.zero_lt_succ _) (ext_is K42.2 (Nat.zero_lt_succ _) (ext_is K40.2 (Nat.zero_lt_succ _) (ext_is K38.2 (Nat.zero_lt_succ _) (ext_is K36.2 (Nat.zero_lt_succ _) (ext_is K34.2 (Nat.zero_lt_succ _) (ext_is K32.2 (Nat.zero_lt_succ _) (ext_is K30.2 (Nat.zero_lt_succ _) (ext_is K28.2 (Nat.zero_lt_succ _) (ext_is K26.2 (Nat.zero_lt_succ _) (ext_is K24.2 (Nat.zero_lt_succ _) (ext_is K22.2 (Nat.zero_lt_succ _) (ext_is K20.2 (Nat.zero_lt_succ _) (ext_is K18.2 (Nat.zero_lt_succ _) (ext_is K16.2 (Nat.zero_lt_succ _) (ext_is K14.2 (Nat.zero_lt_succ _) (ext_is K12.2 (Nat.zero_lt_succ _) (ext_is K10.2 (Nat.zero_lt_succ _) (ext_is K8.2 (Nat.zero_lt_succ _) (ext_is K6.2 (Nat.zero_lt_succ _) (ext_is K4.2 (Nat.zero_lt_succ _) (ext_is K2.2 (Nat.zero_lt_succ _) (ext_is K0.2 (Nat.zero_lt_succ _) n_a0)))))))))))))))))))))))))
  refine gd_c f49 ?_
  have f63 := (ext_is K48.2 (Nat.zero_lt_succ _) (ext_is K46.2 (Nat.zero_lt_succ _) (ext_is K44.2 (Nat.zero_lt_succ _) (ext_is K42.2 (Nat.zero_lt_succ _) (ext_is K40.2 (Nat.zero_lt_succ _) (ext_is K38.2 (Nat.zero_lt_succ _) (ext_is K36.2 (Nat.zero_lt_succ _) (ext_is K34.2 (Nat.zero_lt_succ _) (ext_is K32.2 (Nat.zero_lt_succ _) (ext_is K30.2 (Nat.zero_lt_succ _) (ext_is K28.2 (Nat.zero_lt_succ _) (ext_is K26.2 (Nat.zero_lt_succ _) (ext_is K24.2 (Nat.zero_lt_succ _) (ext_is K22.2 (Nat.zero_lt_succ _) (ext_is K20.2 (Nat.zero_lt_succ _) (ext_is K18.2 (Nat.zero_lt_succ _) (ext_is K16.2 (Nat.zero_lt_succ _) (ext_is K14.2 (Nat.zero_lt_succ _) (ext_is K12.2 (Nat.zero_lt_succ _) (ext_is K10.2 (Nat.zero_lt_succ _) (ext_is K8.2 (Nat.zero_lt_succ _) (ext_is K6.2 (Nat.zero_lt_succ _) (ext_is K4.2 (Nat.zero_lt_succ _) (ext_is K2.2 (Nat.zero_lt_succ _) (ext_is K0.2 (Nat.zero_lt_succ _) n_a0)))))))))))))))))))))))))
  refine gd_b (gX97_text _ _ _ _ ⟨K48.1.1, K48.1.2⟩ f63 h.2.2.2.2.2.2.2.2.2.2.2.2.2.2.2.2.2.2.2.2.2.2.2.2.2.1) (fun K50 => ?_)
  have f51 := (ext_is K50.2 (Nat.zero_lt_succ _) (ext_is K48.2 (Nat.zero_lt_succ _) (ext_is K46.2 (Nat.zero_lt_succ _) (ext_is K44.2 (Nat.zero_lt_succ _) (ext_is K42.2 (Nat.zero_lt_succ _) (ext_is K40.2 (Nat.zero_lt_succ _) (ext_is K38.2 (Nat.zero_lt_succ _) (ext_is K36.2 (Nat.zero_lt_succ _) (ext_is K34.2 (Nat.zero_lt_succ _) (ext_is K32.2 (Nat.zero_lt_succ _) (ext_is K30.2 (Nat.zero_lt_succ _) (ext_is K28.2 (Nat.zero_lt_succ _) (ext_is K26.2 (Nat.zero_lt_succ _) (ext_is K24.2 (Nat.zero_lt_succ _) (ext_is K22.2 (Nat.zero_lt_succ _) (ext_is K20.2 (Nat.zero_lt_succ _) (ext_is K18.2 (Nat.zero_lt_succ _) (ext_is K16.2 (Nat.zero_lt_succ _) (ext_is K14.2 (Nat.zero_lt_succ _) (ext_is K12.2 (Nat.zero_lt_succ _) (ext_is K10.2 (Nat.zero_lt_succ _) (ext_is K8.2 (Nat.zero_lt_succ _) (ext_is K6.2 (Nat.zero_lt_succ _) (ext_is K4.2 (Nat.zero_lt_succ _) (ext_is K2.2 (Nat.zero_lt_succ _) (ext_is K0.2 (Nat.zero_lt_succ _) n_a0))))))))))))))))))))))))))
  refine gd_c f51 ?_
  have f62 := (ext_is K50.2 (Nat.zero_lt_succ _) (ext_is K48.2 (Nat.zero_lt_succ _) (ext_is K46.2 (Nat.zero_lt_succ _) (ext_is K44.2 (Nat.zero_lt_succ _) (ext_is K42.2 (Nat.zero_lt_succ _) (ext_is K40.2 (Nat.zero_lt_succ _) (ext_is K38.2 (Nat.zero_lt_succ _) (ext_is K36.2 (Nat.zero_lt_succ _) (ext_is K34.2 (Nat.zero_lt_succ _) (ext_is K32.2 (Nat.zero_lt_succ _) (ext_is K30.2 (Nat.zero_lt_succ _) (ext_is K28.2 (Nat.zero_lt_succ _) (ext_is K26.2 (Nat.zero_lt_succ _) (ext_is K24.2 (Nat.zero_lt_succ _) (ext_is K22.2 (Nat.zero_lt_succ _) (ext_is K20.2 (Nat.zero_lt_succ _) (ext_is K18.2 (Nat.zero_lt_succ _) (ext_is K16.2 (Nat.zero_lt_succ _) (ext_is K14.2 (Nat.zero_lt_succ _) (ext_is K12.2 (Nat.zero_lt_succ _) (ext_is K10.2 (Nat.zero_lt_succ _) (ext_is K8.2 (Nat.zero_lt_succ _) (ext_is K6.2 (Nat.zero_lt_succ _) (ext_is K4.2 (Nat.zero_lt_succ _) (ext_is K2.2 (Nat.zero_lt_succ _) (ext_is K0.2 (Nat.zero_lt_succ _) n_a0))))))))))))))))))))))))))
  refine gd_b (gX97_region _ _ _ _ ⟨K50.1.1, K50.1.2⟩ f62 h.2.2.2.2.2.2.2.2.2.2.2.2.2.2.2.2.2.2.2.2.2.2.2.2.2.2.1) (fun K52 => ?_)
  have f53 := (ext_is K52.2 (Nat.zero_lt_succ _) (ext_is K50.2 (Nat.zero_lt_succ _) (ext_is K48.2 (Nat.zero_lt_succ _) (ext_is K46.2 (Nat.zero_lt_succ _) (ext_is K44.2 (Nat.zero_lt_succ _) (ext_is K42.2 (Nat.zero_lt_succ _) (ext_is K40.2 (Nat.zero_lt_succ _) (ext_is K38.2 (Nat.zero_lt_succ _) (ext_is K36.2 (Nat.zero_lt_succ _) (ext_is K34.2 (Nat.zero_lt_succ _) (ext_is K32.2 (Nat.zero_lt_succ _) (ext_is K30.2 (Nat.zero_lt_succ _) (ext_is K28.2 (Nat.zero_lt_succ _) (ext_is K26.2 (Nat.zero_lt_succ _) (ext_is K24.2 (Nat.zero_lt_succ _) (ext_is K22.2 (Nat.zero_lt_succ _) (ext_is K20.2 (Nat.zero_lt_succ _) (ext_is K18.2 (Nat.zero_lt_succ _) (ext_is K16.2 (Nat.zero_lt_succ _) (ext_is K14.2 (Nat.zero_lt_succ _) (ext_is K12.2 (Nat.zero_lt_succ _) (ext_is K10.2 (Nat.zero_lt_succ _) (ext_is K8.2 (Nat.zero_lt_succ _) (ext_is K6.2 (Nat.zero_lt_succ _) (ext_is K4.2 (Nat.zero_lt_succ _) (ext_is K2.2 (Nat.zero_lt_succ _) (ext_is K0.2 (Nat.zero_lt_succ _) n_a0)))))))))))))))))))))))))))
  refine gd_c f53 ?_
  have f61 := (ext_is K52.2 (Nat.zero_lt_succ _) (ext_is K50.2 (Nat.zero_lt_succ _) (ext_is K48.2 (Nat.zero_lt_succ _) (ext_is K46.2 (Nat.zero_lt_succ _) (ext_is K44.2 (Nat.zero_lt_succ _) (ext_is K42.2 (Nat.zero_lt_succ _) (ext_is K40.2 (Nat.zero_lt_succ _) (ext_is K38.2 (Nat.zero_lt_succ _) (ext_is K36.2 (Nat.zero_lt_succ _) (ext_is K34.2 (Nat.zero_lt_succ _) (ext_is K32.2 (Nat.zero_lt_succ _) (ext_is K30.2 (Nat.zero_lt_succ _) (ext_is K28.2 (Nat.zero_lt_succ _) (ext_is K26.2 (Nat.zero_lt_succ _) (ext_is K24.2 (Nat.zero_lt_succ _) (ext_is K22.2 (Nat.zero_lt_succ _) (ext_is K20.2 (Nat.zero_lt_succ _) (ext_is K18.2 (Nat.zero_lt_succ _) (ext_is K16.2 (Nat.zero_lt_succ _) (ext_is K14.2 (Nat.zero_lt_succ _) (ext_is K12.2 (Nat.zero_lt_succ _) (ext_is K10.2 (Nat.zero_lt_succ _) (ext_is K8.2 (Nat.zero_lt_succ _) (ext_is K6.2 (Nat.zero_lt_succ _) (ext_is K4.2 (Nat.zero_lt_succ _) (ext_is K2.2 (Nat.zero_lt_succ _) (ext_is K0.2 (Nat.zero_lt_succ _) n_a0)))))))))))))))))))))))))))
  refine gd_b (gX97_number _ _ _ _ ⟨K52.1.1, K52.1.2⟩ f61 h.2.2.2.2.2.2.2.2.2.2.2.2.2.2.2.2.2.2.2.2.2.2.2.2.2.2.2.1) (fun K54 => ?_)
  have f55 := (ext_is K54.2 (Nat.zero_lt_succ _) (ext_is K52.2 (Nat.zero_lt_succ _) (ext_is K50.2 (Nat.zero_lt_succ _) (ext_is K48.2 (Nat.zero_lt_succ _) (ext_is K46.2 (Nat.zero_lt_succ _) (ext_is K44.2 (Nat.zero_lt_succ _) (ext_is K42.2 (Nat.zero_lt_succ _) (ext_is K40.2 (Nat.zero_lt_succ _) (ext_is K38.2 (Nat.zero_lt_succ _) (ext_is K36.2 (Nat.zero_lt_succ _) (ext_is K34.2 (Nat.zero_lt_succ _) (ext_is K32.2 (Nat.zero_lt_succ _) (ext_is K30.2 (Nat.zero_lt_succ _) (ext_is K28.2 (Nat.zero_lt_succ _) (ext_is K26.2 (Nat.zero_lt_succ _) (ext_is K24.2 (Nat.zero_lt_succ _) (ext_is K22.2 (Nat.zero_lt_succ _) (ext_is K20.2 (Nat.zero_lt_succ _) (ext_is K18.2 (Nat.zero_lt_succ _) (ext_is K16.2 (Nat.zero_lt_succ _) (ext_is K14.2 (Nat.zero_lt_succ _) (ext_is K12.2 (Nat.zero_lt_succ _) (ext_is K10.2 (Nat.zero_lt_succ _) (ext_is K8.2 (Nat.zero_lt_succ _) (ext_is K6.2 (Nat.zero_lt_succ _) (ext_is K4.2 (Nat.zero_lt_succ _) (ext_is K2.2 (Nat.zero_lt_succ _) (ext_is K0.2 (Nat.zero_lt_succ _) n_a0))))))))))))))))))))))))))))
  refine gd_c f55 ?_
  have f60 := (ext_is K54.2 (Nat.zero_lt_succ _) (ext_is K52.2 (Nat.zero_lt_succ _) (ext_is K50.2 (Nat.zero_lt_succ _) (ext_is K48.2 (Nat.zero_lt_succ _) (ext_is K46.2 (Nat.zero_lt_succ _) (ext_is K44.2 (Nat.zero_lt_succ _) (ext_is K42.2 (Nat.zero_lt_succ _) (ext_is K40.2 (Nat.zero_lt_succ _) (ext_is K38.2 (Nat.zero_lt_succ _) (ext_is K36.2 (Nat.zero_lt_succ _) (ext_is K34.2 (Nat.zero_lt_succ _) (ext_is K32.2 (Nat.zero_lt_succ _) (ext_is K30.2 (Nat.zero_lt_succ _) (ext_is K28.2 (Nat.zero_lt_succ _) (ext_is K26.2 (Nat.zero_lt_succ _) (ext_is K24.2 (Nat.zero_lt_succ _) (ext_is K22.2 (Nat.zero_lt_succ _) (ext_is K20.2 (Nat.zero_lt_succ _) (ext_is K18.2 (Nat.zero_lt_succ _) (ext_is K16.2 (Nat.zero_lt_succ _) (ext_is K14.2 (Nat.zero_lt_succ _) (ext_is K12.2 (Nat.zero_lt_succ _) (ext_is K10.2 (Nat.zero_lt_succ _) (ext_is K8.2 (Nat.zero_lt_succ _) (ext_is K6.2 (Nat.zero_lt_succ _) (ext_is K4.2 (Nat.zero_lt_succ _) (ext_is K2.2 (Nat.zero_lt_succ _) (ext_is K0.2 (Nat.zero_lt_succ _) n_a0))))))))))))))))))))))))))))
  refine gd_b (gX97_number _ _ _ _ ⟨K54.1.1, K54.1.2⟩ f60 h.2.2.2.2.2.2.2.2.2.2.2.2.2.2.2.2.2.2.2.2.2.2.2.2.2.2.2.2.1) (fun K56 => ?_)
  have f57 := (ext_is K56.2 (Nat.zero_lt_succ _) (ext_is K54.2 (Nat.zero_lt_succ _) (ext_is K52.2 (Nat.zero_lt_succ _) (ext_is K50.2 (Nat.zero_lt_succ _) (ext_is K48.2 (Nat.zero_lt_succ _) (ext_is K46.2 (Nat.zero_lt_succ _) (ext_is K44.2 (Nat.zero_lt_succ _) (ext_is K42.2 (Nat.zero_lt_succ _) (ext_is K40.2 (Nat.zero_lt_succ _) (ext_is K38.2 (Nat.zero_lt_succ _) (ext_is K36.2 (Nat.zero_lt_succ _) (ext_is K34.2 (Nat.zero_lt_succ _) (ext_is K32.2 (Nat.zero_lt_succ _) (ext_is K30.2 (Nat.zero_lt_succ _) (ext_is K28.2 (Nat.zero_lt_succ _) (ext_is K26.2 (Nat.zero_lt_succ _) (ext_is K24.2 (Nat.zero_lt_succ _) (ext_is K22.2 (Nat.zero_lt_succ _) (ext_is K20.2 (Nat.zero_lt_succ _) (ext_is K18.2 (Nat.zero_lt_succ _) (ext_is K16.2 (Nat.zero_lt_succ _) (ext_is K14.2 (Nat.zero_lt_succ _) (ext_is K12.2 (Nat.zero_lt_succ _) (ext_is K10.2 (Nat.zero_lt_succ _) (ext_is K8.2 (Nat.zero_lt_succ _) (ext_is K6.2 (Nat.zero_lt_succ _) (ext_is K4.2 (Nat.zero_lt_succ _) (ext_is K2.2 (Nat.zero_lt_succ _) (ext_is K0.2 (Nat.zero_lt_succ _) n_a0)))))))))))))))))))))))))))))
  refine gd_c f57 ?_
  have f59 := (ext_is K56.2 (Nat.zero_lt_succ _) (ext_is K54.2 (Nat.zero_lt_succ _) (ext_is K52.2 (Nat.zero_lt_succ _) (ext_is K50.2 (Nat.zero_lt_succ _) (ext_is K48.2 (Nat.zero_lt_succ _) (ext_is K46.2 (Nat.zero_lt_succ _) (ext_is K44.2 (Nat.zero_lt_succ _) (ext_is K42.2 (Nat.zero_lt_succ _) (ext_is K40.2 (Nat.zero_lt_succ _) (ext_is K38.2 (Nat.zero_lt_succ _) (ext_is K36.2 (Nat.zero_lt_succ _) (ext_is K34.2 (Nat.zero_lt_succ _) (ext_is K32.2 (Nat.zero_lt_succ _) (ext_is K30.2 (Nat.zero_lt_succ _) (ext_is K28.2 (Nat.zero_lt_succ _) (ext_is K26.2 (Nat.zero_lt_succ _) (ext_is K24.2 (Nat.zero_lt_succ _) (ext_is K22.2 (Nat.zero_lt_succ _) (ext_is K20.2 (Nat.zero_lt_succ _) (ext_is K18.2 (Nat.zero_lt_succ _) (ext_is K16.2 (Nat.zero_lt_succ _) (ext_is K14.2 (Nat.zero_lt_succ _) (ext_is K12.2 (Nat.zero_lt_succ _) (ext_is K10.2 (Nat.zero_lt_succ _) (ext_is K8.2 (Nat.zero_lt_succ _) (ext_is K6.2 (Nat.zero_lt_succ _) (ext_is K4.2 (Nat.zero_lt_succ _) (ext_is K2.2 (Nat.zero_lt_succ _) (ext_is K0.2 (Nat.zero_lt_succ _) n_a0)))))))))))))))))))))))))))))
  refine gd_b (gX97_done _ _ ⟨K56.1.1, K56.1.2⟩ f59 h.2.2.2.2.2.2.2.2.2.2.2.2.2.2.2.2.2.2.2.2.2.2.2.2.2.2.2.2.2.1) (fun K58 => ?_)
  exact ⟨rfl, ⟨K58.1.1, K58.1.2⟩, (ext_tr K0.2 (ext_tr K2.2 (ext_tr K4.2 (ext_tr K6.2 (ext_tr K8.2 (ext_tr K10.2 (ext_tr K12.2 (ext_tr K14.2 (ext_tr K16.2 (ext_tr K18.2 (ext_tr K20.2 (ext_tr K22.2 (ext_tr K24.2 (ext_tr K26.2 (ext_tr K28.2 (ext_tr K30.2 (ext_tr K32.2 (ext_tr K34.2 (ext_tr K36.2 (ext_tr K38.2 (ext_tr K40.2 (ext_tr K42.2 (ext_tr K44.2 (ext_tr K46.2 (ext_tr K48.2 (ext_tr K50.2 (ext_tr K52.2 (ext_tr K54.2 (ext_tr K56.2 K58.2)))))))))))))))))))))))))))))⟩
noncomputable def GX97_devices (a0 : Nat) (a1 : Int32) (M : FM) : FM := GX97_devices_0 a0 a1 M
def HX97_devices (a0 : Nat) (a1 : Int32) (M : FM) : Prop := HX97_devices_0 a0 a1 M
theorem gX97_devices (a0 : Nat) (a1 : Int32) (M : FM) (T : Ty M) (n_a0 : fm_is M 100 100 a0 = true) (h : HX97_devices a0 a1 M) : gd (FX97_devices fN a0 a1 M) (GX97_devices a0 a1 M) (OkV M) := gX97_devices_0 a0 a1 M T n_a0 h
def kX97_machine (k69 : Nat → Int32 → Int32 → FM → Option (FM)) : (Nat × Int32 × Int32 × FM) ⊕ (FM) → Option (FM)
  | .inl (v0, v1, v2, M') => k69 v0 v1 v2 M'
  | .inr (r) => some r
def pX97_machine (M : FM) : (Nat × Int32 × Int32 × FM) ⊕ (FM) → Prop
  | .inl (_, _, _, M') => OkV M M'
  | .inr (r) => OkV M r
theorem pX97_machine_t {M M1 : FM} (e : Ext M M1) : ∀ y, pX97_machine M1 y → pX97_machine M y
  | .inl (_, _, _, _), h => ⟨h.1, ext_tr e h.2⟩
  | .inr (r), h => ⟨h.1, ext_tr e h.2⟩
noncomputable def GX97_machine_0 (a0 : Nat) (a1 : Int32) (M : FM) : (Nat × Int32 × Int32 × FM) ⊕ (FM) :=
  let M1 : FM := GX97_node a0 100 M
  let M2 : FM := GX97_cells a0 (Int32.ofInt 2) (Int32.ofInt 2) M1
  let M3 : FM := GX97_text a0 109 144 M2
  let M4 : FM := GX97_text a0 128 107 M3
  let M5 : FM := GX97_node a0 108 M4
  let M6 : FM := GX97_text a0 138 104 M5
  let M7 : FM := GX97_done a0 M6
  let M8 : FM := GX97_node a0 116 M7
  let M9 : FM := GX97_cells a0 (Int32.ofInt 1) (Int32.ofInt 0) M8
  let M10 : FM := GX97_number a0 140 (Int64.ofInt 10000000) M9
  (.inl (a0, a1, (Int32.ofInt 0), M10))
def HX97_machine_0 (a0 : Nat) (a1 : Int32) (M : FM) : Prop := (HX97_node a0 100 M ∧ let M1 : FM := GX97_node a0 100 M; (HX97_cells a0 (Int32.ofInt 2) (Int32.ofInt 2) M1 ∧ let M2 : FM := GX97_cells a0 (Int32.ofInt 2) (Int32.ofInt 2) M1; (HX97_text a0 109 144 M2 ∧ let M3 : FM := GX97_text a0 109 144 M2; (HX97_text a0 128 107 M3 ∧ let M4 : FM := GX97_text a0 128 107 M3; (HX97_node a0 108 M4 ∧ let M5 : FM := GX97_node a0 108 M4; (HX97_text a0 138 104 M5 ∧ let M6 : FM := GX97_text a0 138 104 M5; (HX97_done a0 M6 ∧ let M7 : FM := GX97_done a0 M6; (HX97_node a0 116 M7 ∧ let M8 : FM := GX97_node a0 116 M7; (HX97_cells a0 (Int32.ofInt 1) (Int32.ofInt 0) M8 ∧ let M9 : FM := GX97_cells a0 (Int32.ofInt 1) (Int32.ofInt 0) M8; (HX97_number a0 140 (Int64.ofInt 10000000) M9 ∧ True))))))))))
theorem gX97_machine_0 (k69 : Nat → Int32 → Int32 → FM → Option (FM)) (a0 : Nat) (a1 : Int32) (M : FM) (T : Ty M) (n_a0 : fm_is M 100 100 a0 = true) (h : HX97_machine_0 a0 a1 M) : gs (FX97_machine_0 fN k69 a0 a1 M) (GX97_machine_0 a0 a1 M) (kX97_machine k69) (pX97_machine M) := by
  delta FX97_machine_0 BX97_machine_0
  refine gs_c n_a0 ?_
  refine gs_b (gX97_node _ _ _ ⟨T.1, T.2⟩ n_a0 h.1) (fun K0 => ?_)
  have f1 := (ext_is K0.2 (Nat.zero_lt_succ _) n_a0)
  refine gs_c f1 ?_
  have f27 := (ext_is K0.2 (Nat.zero_lt_succ _) n_a0)
  refine gs_b (gX97_cells _ _ _ _ ⟨K0.1.1, K0.1.2⟩ f27 h.2.1) (fun K2 => ?_)
  have f3 := (ext_is K2.2 (Nat.zero_lt_succ _) (ext_is K0.2 (Nat.zero_lt_succ _) n_a0))
  refine gs_c f3 ?_
  have f26 := (ext_is K2.2 (Nat.zero_lt_succ _) (ext_is K0.2 (Nat.zero_lt_succ _) n_a0))
  refine gs_b (gX97_text _ _ _ _ ⟨K2.1.1, K2.1.2⟩ f26 h.2.2.1) (fun K4 => ?_)
  have f5 := (ext_is K4.2 (Nat.zero_lt_succ _) (ext_is K2.2 (Nat.zero_lt_succ _) (ext_is K0.2 (Nat.zero_lt_succ _) n_a0)))
  refine gs_c f5 ?_
  have f25 := (ext_is K4.2 (Nat.zero_lt_succ _) (ext_is K2.2 (Nat.zero_lt_succ _) (ext_is K0.2 (Nat.zero_lt_succ _) n_a0)))
  refine gs_b (gX97_text _ _ _ _ ⟨K4.1.1, K4.1.2⟩ f25 h.2.2.2.1) (fun K6 => ?_)
  have f7 := (ext_is K6.2 (Nat.zero_lt_succ _) (ext_is K4.2 (Nat.zero_lt_succ _) (ext_is K2.2 (Nat.zero_lt_succ _) (ext_is K0.2 (Nat.zero_lt_succ _) n_a0))))
  refine gs_c f7 ?_
  have f24 := (ext_is K6.2 (Nat.zero_lt_succ _) (ext_is K4.2 (Nat.zero_lt_succ _) (ext_is K2.2 (Nat.zero_lt_succ _) (ext_is K0.2 (Nat.zero_lt_succ _) n_a0))))
  refine gs_b (gX97_node _ _ _ ⟨K6.1.1, K6.1.2⟩ f24 h.2.2.2.2.1) (fun K8 => ?_)
  have f9 := (ext_is K8.2 (Nat.zero_lt_succ _) (ext_is K6.2 (Nat.zero_lt_succ _) (ext_is K4.2 (Nat.zero_lt_succ _) (ext_is K2.2 (Nat.zero_lt_succ _) (ext_is K0.2 (Nat.zero_lt_succ _) n_a0)))))
  refine gs_c f9 ?_
  have f23 := (ext_is K8.2 (Nat.zero_lt_succ _) (ext_is K6.2 (Nat.zero_lt_succ _) (ext_is K4.2 (Nat.zero_lt_succ _) (ext_is K2.2 (Nat.zero_lt_succ _) (ext_is K0.2 (Nat.zero_lt_succ _) n_a0)))))
  refine gs_b (gX97_text _ _ _ _ ⟨K8.1.1, K8.1.2⟩ f23 h.2.2.2.2.2.1) (fun K10 => ?_)
  have f11 := (ext_is K10.2 (Nat.zero_lt_succ _) (ext_is K8.2 (Nat.zero_lt_succ _) (ext_is K6.2 (Nat.zero_lt_succ _) (ext_is K4.2 (Nat.zero_lt_succ _) (ext_is K2.2 (Nat.zero_lt_succ _) (ext_is K0.2 (Nat.zero_lt_succ _) n_a0))))))
  refine gs_c f11 ?_
  have f22 := (ext_is K10.2 (Nat.zero_lt_succ _) (ext_is K8.2 (Nat.zero_lt_succ _) (ext_is K6.2 (Nat.zero_lt_succ _) (ext_is K4.2 (Nat.zero_lt_succ _) (ext_is K2.2 (Nat.zero_lt_succ _) (ext_is K0.2 (Nat.zero_lt_succ _) n_a0))))))
  refine gs_b (gX97_done _ _ ⟨K10.1.1, K10.1.2⟩ f22 h.2.2.2.2.2.2.1) (fun K12 => ?_)
  have f13 := (ext_is K12.2 (Nat.zero_lt_succ _) (ext_is K10.2 (Nat.zero_lt_succ _) (ext_is K8.2 (Nat.zero_lt_succ _) (ext_is K6.2 (Nat.zero_lt_succ _) (ext_is K4.2 (Nat.zero_lt_succ _) (ext_is K2.2 (Nat.zero_lt_succ _) (ext_is K0.2 (Nat.zero_lt_succ _) n_a0)))))))
  refine gs_c f13 ?_
  have f21 := (ext_is K12.2 (Nat.zero_lt_succ _) (ext_is K10.2 (Nat.zero_lt_succ _) (ext_is K8.2 (Nat.zero_lt_succ _) (ext_is K6.2 (Nat.zero_lt_succ _) (ext_is K4.2 (Nat.zero_lt_succ _) (ext_is K2.2 (Nat.zero_lt_succ _) (ext_is K0.2 (Nat.zero_lt_succ _) n_a0)))))))
  refine gs_b (gX97_node _ _ _ ⟨K12.1.1, K12.1.2⟩ f21 h.2.2.2.2.2.2.2.1) (fun K14 => ?_)
  have f15 := (ext_is K14.2 (Nat.zero_lt_succ _) (ext_is K12.2 (Nat.zero_lt_succ _) (ext_is K10.2 (Nat.zero_lt_succ _) (ext_is K8.2 (Nat.zero_lt_succ _) (ext_is K6.2 (Nat.zero_lt_succ _) (ext_is K4.2 (Nat.zero_lt_succ _) (ext_is K2.2 (Nat.zero_lt_succ _) (ext_is K0.2 (Nat.zero_lt_succ _) n_a0))))))))
  refine gs_c f15 ?_
  have f20 := (ext_is K14.2 (Nat.zero_lt_succ _) (ext_is K12.2 (Nat.zero_lt_succ _) (ext_is K10.2 (Nat.zero_lt_succ _) (ext_is K8.2 (Nat.zero_lt_succ _) (ext_is K6.2 (Nat.zero_lt_succ _) (ext_is K4.2 (Nat.zero_lt_succ _) (ext_is K2.2 (Nat.zero_lt_succ _) (ext_is K0.2 (Nat.zero_lt_succ _) n_a0))))))))
  refine gs_b (gX97_cells _ _ _ _ ⟨K14.1.1, K14.1.2⟩ f20 h.2.2.2.2.2.2.2.2.1) (fun K16 => ?_)
  have f17 := (ext_is K16.2 (Nat.zero_lt_succ _) (ext_is K14.2 (Nat.zero_lt_succ _) (ext_is K12.2 (Nat.zero_lt_succ _) (ext_is K10.2 (Nat.zero_lt_succ _) (ext_is K8.2 (Nat.zero_lt_succ _) (ext_is K6.2 (Nat.zero_lt_succ _) (ext_is K4.2 (Nat.zero_lt_succ _) (ext_is K2.2 (Nat.zero_lt_succ _) (ext_is K0.2 (Nat.zero_lt_succ _) n_a0)))))))))
  refine gs_c f17 ?_
  have f19 := (ext_is K16.2 (Nat.zero_lt_succ _) (ext_is K14.2 (Nat.zero_lt_succ _) (ext_is K12.2 (Nat.zero_lt_succ _) (ext_is K10.2 (Nat.zero_lt_succ _) (ext_is K8.2 (Nat.zero_lt_succ _) (ext_is K6.2 (Nat.zero_lt_succ _) (ext_is K4.2 (Nat.zero_lt_succ _) (ext_is K2.2 (Nat.zero_lt_succ _) (ext_is K0.2 (Nat.zero_lt_succ _) n_a0)))))))))
  refine gs_b (gX97_number _ _ _ _ ⟨K16.1.1, K16.1.2⟩ f19 h.2.2.2.2.2.2.2.2.2.1) (fun K18 => ?_)
  exact And.intro rfl (And.intro (And.intro K18.1.1 K18.1.2) ((ext_tr K0.2 (ext_tr K2.2 (ext_tr K4.2 (ext_tr K6.2 (ext_tr K8.2 (ext_tr K10.2 (ext_tr K12.2 (ext_tr K14.2 (ext_tr K16.2 K18.2)))))))))))
noncomputable def GX97_machine_69 (a0 : Nat) (a1 : Int32) (a2 : Int32) (M : FM) : (Nat × Int32 × Int32 × FM) ⊕ (FM) :=
  fi (a1 ≤ a2) (
    let M1 : FM := GX97_done a0 M
    let M2 : FM := GX97_node a0 126 M1
    let M3 : FM := GX97_text a0 117 125 M2
    let M4 : FM := GX97_region a0 (Int64.ofInt 2147483648) (Int64.ofInt 4194304) M3
    let M5 : FM := GX97_done a0 M4
    let M6 : FM := GX97_node a0 135 M5
    let M7 : FM := GX97_cells a0 (Int32.ofInt 2) (Int32.ofInt 2) M6
    let M8 : FM := GX97_text a0 109 134 M7
    let M9 : FM := GX97_nothing a0 131 M8
    let M10 : FM := GX97_devices a0 a1 M9
    let M11 : FM := GX97_done a0 M10
    let M12 : FM := GX97_done a0 M11
    let M13 : FM := GX97_four a0 (Int64.ofInt 9) M12
    (.inr M13)) (
    let M14 : FM := GX97_processor a0 a2 M
    let x15 : Int32 := a2 + (Int32.ofInt 1)
    (.inl (a0, a1, x15, M14)))
def HX97_machine_69 (a0 : Nat) (a1 : Int32) (a2 : Int32) (M : FM) : Prop := ((a1 ≤ a2 → (HX97_done a0 M ∧ let M1 : FM := GX97_done a0 M; (HX97_node a0 126 M1 ∧ let M2 : FM := GX97_node a0 126 M1; (HX97_text a0 117 125 M2 ∧ let M3 : FM := GX97_text a0 117 125 M2; (HX97_region a0 (Int64.ofInt 2147483648) (Int64.ofInt 4194304) M3 ∧ let M4 : FM := GX97_region a0 (Int64.ofInt 2147483648) (Int64.ofInt 4194304) M3; (HX97_done a0 M4 ∧ let M5 : FM := GX97_done a0 M4; (HX97_node a0 135 M5 ∧ let M6 : FM := GX97_node a0 135 M5; (HX97_cells a0 (Int32.ofInt 2) (Int32.ofInt 2) M6 ∧ let M7 : FM := GX97_cells a0 (Int32.ofInt 2) (Int32.ofInt 2) M6; (HX97_text a0 109 134 M7 ∧ let M8 : FM := GX97_text a0 109 134 M7; (HX97_nothing a0 131 M8 ∧ let M9 : FM := GX97_nothing a0 131 M8; (HX97_devices a0 a1 M9 ∧ let M10 : FM := GX97_devices a0 a1 M9; (HX97_done a0 M10 ∧ let M11 : FM := GX97_done a0 M10; (HX97_done a0 M11 ∧ let M12 : FM := GX97_done a0 M11; (HX97_four a0 (Int64.ofInt 9) M12 ∧ True)))))))))))))) ∧ (¬ (a1 ≤ a2) → (HX97_processor a0 a2 M ∧ True)))
theorem gX97_machine_69 (k69 : Nat → Int32 → Int32 → FM → Option (FM)) (a0 : Nat) (a1 : Int32) (a2 : Int32) (M : FM) (T : Ty M) (n_a0 : fm_is M 100 100 a0 = true) (h : HX97_machine_69 a0 a1 a2 M) : gs (FX97_machine_69 fN k69 a0 a1 a2 M) (GX97_machine_69 a0 a1 a2 M) (kX97_machine k69) (pX97_machine M) := by
  delta FX97_machine_69 BX97_machine_69
  refine gs_fi (fun c0_0 => ?_) (fun c0_0 => ?_)
  · refine gs_c n_a0 ?_
    refine gs_b (gX97_done _ _ ⟨T.1, T.2⟩ n_a0 (h.1 c0_0).1) (fun K1 => ?_)
    have f2 := (ext_is K1.2 (Nat.zero_lt_succ _) n_a0)
    refine gs_c f2 ?_
    have f36 := (ext_is K1.2 (Nat.zero_lt_succ _) n_a0)
    refine gs_b (gX97_node _ _ _ ⟨K1.1.1, K1.1.2⟩ f36 (h.1 c0_0).2.1) (fun K3 => ?_)
    have f4 := (ext_is K3.2 (Nat.zero_lt_succ _) (ext_is K1.2 (Nat.zero_lt_succ _) n_a0))
    refine gs_c f4 ?_
    have f35 := (ext_is K3.2 (Nat.zero_lt_succ _) (ext_is K1.2 (Nat.zero_lt_succ _) n_a0))
    refine gs_b (gX97_text _ _ _ _ ⟨K3.1.1, K3.1.2⟩ f35 (h.1 c0_0).2.2.1) (fun K5 => ?_)
    have f6 := (ext_is K5.2 (Nat.zero_lt_succ _) (ext_is K3.2 (Nat.zero_lt_succ _) (ext_is K1.2 (Nat.zero_lt_succ _) n_a0)))
    refine gs_c f6 ?_
    have f34 := (ext_is K5.2 (Nat.zero_lt_succ _) (ext_is K3.2 (Nat.zero_lt_succ _) (ext_is K1.2 (Nat.zero_lt_succ _) n_a0)))
    refine gs_b (gX97_region _ _ _ _ ⟨K5.1.1, K5.1.2⟩ f34 (h.1 c0_0).2.2.2.1) (fun K7 => ?_)
    have f8 := (ext_is K7.2 (Nat.zero_lt_succ _) (ext_is K5.2 (Nat.zero_lt_succ _) (ext_is K3.2 (Nat.zero_lt_succ _) (ext_is K1.2 (Nat.zero_lt_succ _) n_a0))))
    refine gs_c f8 ?_
    have f33 := (ext_is K7.2 (Nat.zero_lt_succ _) (ext_is K5.2 (Nat.zero_lt_succ _) (ext_is K3.2 (Nat.zero_lt_succ _) (ext_is K1.2 (Nat.zero_lt_succ _) n_a0))))
    refine gs_b (gX97_done _ _ ⟨K7.1.1, K7.1.2⟩ f33 (h.1 c0_0).2.2.2.2.1) (fun K9 => ?_)
    have f10 := (ext_is K9.2 (Nat.zero_lt_succ _) (ext_is K7.2 (Nat.zero_lt_succ _) (ext_is K5.2 (Nat.zero_lt_succ _) (ext_is K3.2 (Nat.zero_lt_succ _) (ext_is K1.2 (Nat.zero_lt_succ _) n_a0)))))
    refine gs_c f10 ?_
    have f32 := (ext_is K9.2 (Nat.zero_lt_succ _) (ext_is K7.2 (Nat.zero_lt_succ _) (ext_is K5.2 (Nat.zero_lt_succ _) (ext_is K3.2 (Nat.zero_lt_succ _) (ext_is K1.2 (Nat.zero_lt_succ _) n_a0)))))
    refine gs_b (gX97_node _ _ _ ⟨K9.1.1, K9.1.2⟩ f32 (h.1 c0_0).2.2.2.2.2.1) (fun K11 => ?_)
    have f12 := (ext_is K11.2 (Nat.zero_lt_succ _) (ext_is K9.2 (Nat.zero_lt_succ _) (ext_is K7.2 (Nat.zero_lt_succ _) (ext_is K5.2 (Nat.zero_lt_succ _) (ext_is K3.2 (Nat.zero_lt_succ _) (ext_is K1.2 (Nat.zero_lt_succ _) n_a0))))))
    refine gs_c f12 ?_
    have f31 := (ext_is K11.2 (Nat.zero_lt_succ _) (ext_is K9.2 (Nat.zero_lt_succ _) (ext_is K7.2 (Nat.zero_lt_succ _) (ext_is K5.2 (Nat.zero_lt_succ _) (ext_is K3.2 (Nat.zero_lt_succ _) (ext_is K1.2 (Nat.zero_lt_succ _) n_a0))))))
    refine gs_b (gX97_cells _ _ _ _ ⟨K11.1.1, K11.1.2⟩ f31 (h.1 c0_0).2.2.2.2.2.2.1) (fun K13 => ?_)
    have f14 := (ext_is K13.2 (Nat.zero_lt_succ _) (ext_is K11.2 (Nat.zero_lt_succ _) (ext_is K9.2 (Nat.zero_lt_succ _) (ext_is K7.2 (Nat.zero_lt_succ _) (ext_is K5.2 (Nat.zero_lt_succ _) (ext_is K3.2 (Nat.zero_lt_succ _) (ext_is K1.2 (Nat.zero_lt_succ _) n_a0)))))))
    refine gs_c f14 ?_
    have f30 := (ext_is K13.2 (Nat.zero_lt_succ _) (ext_is K11.2 (Nat.zero_lt_succ _) (ext_is K9.2 (Nat.zero_lt_succ _) (ext_is K7.2 (Nat.zero_lt_succ _) (ext_is K5.2 (Nat.zero_lt_succ _) (ext_is K3.2 (Nat.zero_lt_succ _) (ext_is K1.2 (Nat.zero_lt_succ _) n_a0)))))))
    refine gs_b (gX97_text _ _ _ _ ⟨K13.1.1, K13.1.2⟩ f30 (h.1 c0_0).2.2.2.2.2.2.2.1) (fun K15 => ?_)
    have f16 := (ext_is K15.2 (Nat.zero_lt_succ _) (ext_is K13.2 (Nat.zero_lt_succ _) (ext_is K11.2 (Nat.zero_lt_succ _) (ext_is K9.2 (Nat.zero_lt_succ _) (ext_is K7.2 (Nat.zero_lt_succ _) (ext_is K5.2 (Nat.zero_lt_succ _) (ext_is K3.2 (Nat.zero_lt_succ _) (ext_is K1.2 (Nat.zero_lt_succ _) n_a0))))))))
    refine gs_c f16 ?_
    have f29 := (ext_is K15.2 (Nat.zero_lt_succ _) (ext_is K13.2 (Nat.zero_lt_succ _) (ext_is K11.2 (Nat.zero_lt_succ _) (ext_is K9.2 (Nat.zero_lt_succ _) (ext_is K7.2 (Nat.zero_lt_succ _) (ext_is K5.2 (Nat.zero_lt_succ _) (ext_is K3.2 (Nat.zero_lt_succ _) (ext_is K1.2 (Nat.zero_lt_succ _) n_a0))))))))
    refine gs_b (gX97_nothing _ _ _ ⟨K15.1.1, K15.1.2⟩ f29 (h.1 c0_0).2.2.2.2.2.2.2.2.1) (fun K17 => ?_)
    have f18 := (ext_is K17.2 (Nat.zero_lt_succ _) (ext_is K15.2 (Nat.zero_lt_succ _) (ext_is K13.2 (Nat.zero_lt_succ _) (ext_is K11.2 (Nat.zero_lt_succ _) (ext_is K9.2 (Nat.zero_lt_succ _) (ext_is K7.2 (Nat.zero_lt_succ _) (ext_is K5.2 (Nat.zero_lt_succ _) (ext_is K3.2 (Nat.zero_lt_succ _) (ext_is K1.2 (Nat.zero_lt_succ _) n_a0)))))))))
    refine gs_c f18 ?_
    have f28 := (ext_is K17.2 (Nat.zero_lt_succ _) (ext_is K15.2 (Nat.zero_lt_succ _) (ext_is K13.2 (Nat.zero_lt_succ _) (ext_is K11.2 (Nat.zero_lt_succ _) (ext_is K9.2 (Nat.zero_lt_succ _) (ext_is K7.2 (Nat.zero_lt_succ _) (ext_is K5.2 (Nat.zero_lt_succ _) (ext_is K3.2 (Nat.zero_lt_succ _) (ext_is K1.2 (Nat.zero_lt_succ _) n_a0)))))))))
    refine gs_b (gX97_devices _ _ _ ⟨K17.1.1, K17.1.2⟩ f28 (h.1 c0_0).2.2.2.2.2.2.2.2.2.1) (fun K19 => ?_)
    have f20 := (ext_is K19.2 (Nat.zero_lt_succ _) (ext_is K17.2 (Nat.zero_lt_succ _) (ext_is K15.2 (Nat.zero_lt_succ _) (ext_is K13.2 (Nat.zero_lt_succ _) (ext_is K11.2 (Nat.zero_lt_succ _) (ext_is K9.2 (Nat.zero_lt_succ _) (ext_is K7.2 (Nat.zero_lt_succ _) (ext_is K5.2 (Nat.zero_lt_succ _) (ext_is K3.2 (Nat.zero_lt_succ _) (ext_is K1.2 (Nat.zero_lt_succ _) n_a0))))))))))
    refine gs_c f20 ?_
    have f27 := (ext_is K19.2 (Nat.zero_lt_succ _) (ext_is K17.2 (Nat.zero_lt_succ _) (ext_is K15.2 (Nat.zero_lt_succ _) (ext_is K13.2 (Nat.zero_lt_succ _) (ext_is K11.2 (Nat.zero_lt_succ _) (ext_is K9.2 (Nat.zero_lt_succ _) (ext_is K7.2 (Nat.zero_lt_succ _) (ext_is K5.2 (Nat.zero_lt_succ _) (ext_is K3.2 (Nat.zero_lt_succ _) (ext_is K1.2 (Nat.zero_lt_succ _) n_a0))))))))))
    refine gs_b (gX97_done _ _ ⟨K19.1.1, K19.1.2⟩ f27 (h.1 c0_0).2.2.2.2.2.2.2.2.2.2.1) (fun K21 => ?_)
    have f22 := (ext_is K21.2 (Nat.zero_lt_succ _) (ext_is K19.2 (Nat.zero_lt_succ _) (ext_is K17.2 (Nat.zero_lt_succ _) (ext_is K15.2 (Nat.zero_lt_succ _) (ext_is K13.2 (Nat.zero_lt_succ _) (ext_is K11.2 (Nat.zero_lt_succ _) (ext_is K9.2 (Nat.zero_lt_succ _) (ext_is K7.2 (Nat.zero_lt_succ _) (ext_is K5.2 (Nat.zero_lt_succ _) (ext_is K3.2 (Nat.zero_lt_succ _) (ext_is K1.2 (Nat.zero_lt_succ _) n_a0)))))))))))
    refine gs_c f22 ?_
    have f26 := (ext_is K21.2 (Nat.zero_lt_succ _) (ext_is K19.2 (Nat.zero_lt_succ _) (ext_is K17.2 (Nat.zero_lt_succ _) (ext_is K15.2 (Nat.zero_lt_succ _) (ext_is K13.2 (Nat.zero_lt_succ _) (ext_is K11.2 (Nat.zero_lt_succ _) (ext_is K9.2 (Nat.zero_lt_succ _) (ext_is K7.2 (Nat.zero_lt_succ _) (ext_is K5.2 (Nat.zero_lt_succ _) (ext_is K3.2 (Nat.zero_lt_succ _) (ext_is K1.2 (Nat.zero_lt_succ _) n_a0)))))))))))
    refine gs_b (gX97_done _ _ ⟨K21.1.1, K21.1.2⟩ f26 (h.1 c0_0).2.2.2.2.2.2.2.2.2.2.2.1) (fun K23 => ?_)
    have f24 := (ext_is K23.2 (Nat.zero_lt_succ _) (ext_is K21.2 (Nat.zero_lt_succ _) (ext_is K19.2 (Nat.zero_lt_succ _) (ext_is K17.2 (Nat.zero_lt_succ _) (ext_is K15.2 (Nat.zero_lt_succ _) (ext_is K13.2 (Nat.zero_lt_succ _) (ext_is K11.2 (Nat.zero_lt_succ _) (ext_is K9.2 (Nat.zero_lt_succ _) (ext_is K7.2 (Nat.zero_lt_succ _) (ext_is K5.2 (Nat.zero_lt_succ _) (ext_is K3.2 (Nat.zero_lt_succ _) (ext_is K1.2 (Nat.zero_lt_succ _) n_a0))))))))))))
    refine gs_c f24 ?_
    refine gs_b (gX97_four _ _ _ (h.1 c0_0).2.2.2.2.2.2.2.2.2.2.2.2.1) (fun K25 => ?_)
    exact And.intro rfl (And.intro (And.intro K25.1.1 K25.1.2) ((ext_tr K1.2 (ext_tr K3.2 (ext_tr K5.2 (ext_tr K7.2 (ext_tr K9.2 (ext_tr K11.2 (ext_tr K13.2 (ext_tr K15.2 (ext_tr K17.2 (ext_tr K19.2 (ext_tr K21.2 (ext_tr K23.2 K25.2))))))))))))))
  · refine gs_c n_a0 ?_
    refine gs_b (gX97_processor _ _ _ ⟨T.1, T.2⟩ n_a0 (h.2 c0_0).1) (fun K37 => ?_)
    exact And.intro rfl (And.intro (And.intro K37.1.1 K37.1.2) K37.2)
noncomputable def GX97_machine (a0 : Nat) (a1 : Int32) (M : FM) : FM := (FX97_machine fN a0 a1 M).getD M
def HX97_machine (a0 : Nat) (a1 : Int32) (M : FM) : Prop := ∃ r, FX97_machine fN a0 a1 M = some r ∧ OkV M r
theorem gX97_machine (a0 : Nat) (a1 : Int32) (M : FM) (h : HX97_machine a0 a1 M) : gd (FX97_machine fN a0 a1 M) (GX97_machine a0 a1 M) (OkV M) := gd_op h
def kX97_head (k2 : Nat → Int64 → Int32 → FM → Option (FM)) : (Nat × Int64 × Int32 × FM) ⊕ (FM) → Option (FM)
  | .inl (v0, v1, v2, M') => k2 v0 v1 v2 M'
  | .inr (r) => some r
def pX97_head (M : FM) : (Nat × Int64 × Int32 × FM) ⊕ (FM) → Prop
  | .inl (_, _, _, M') => OkV M M'
  | .inr (r) => OkV M r
theorem pX97_head_t {M M1 : FM} (e : Ext M M1) : ∀ y, pX97_head M1 y → pX97_head M y
  | .inl (_, _, _, _), h => ⟨h.1, ext_tr e h.2⟩
  | .inr (r), h => ⟨h.1, ext_tr e h.2⟩
noncomputable def GX97_head_0 (a0 : Nat) (a1 : Int64) (M : FM) : (Nat × Int64 × Int32 × FM) ⊕ (FM) :=
  (.inl (a0, a1, (Int32.ofInt 3), M))
theorem gX97_head_0 (k2 : Nat → Int64 → Int32 → FM → Option (FM)) (a0 : Nat) (a1 : Int64) (M : FM) (T : Ty M) : gs (FX97_head_0 fN k2 a0 a1 M) (GX97_head_0 a0 a1 M) (kX97_head k2) (pX97_head M) := by
  delta FX97_head_0 BX97_head_0
  exact And.intro rfl (And.intro (And.intro T.1 T.2) ((ext_r _)))
noncomputable def GX97_head_2 (a0 : Nat) (a1 : Int64) (a3 : Int32) (M : FM) : (Nat × Int64 × Int32 × FM) ⊕ (FM) :=
  fi (a3 < 0) (
    (.inr M)) (
    let x1 : Int32 := (M.1 416 a0 0)
    let x2 : Nat := (M.2.2 415 a0 0)
    let M3 : FM := fm_sI M 3 x2 x1.toNatClampNeg ((a1 >>> (((Int32.ofInt 8) * a3).toInt64 &&& 63)).toInt32 &&& (Int32.ofInt 255))
    let M4 : FM := fm_sI M3 416 a0 0 ((M3.1 416 a0 0) + (Int32.ofInt 1))
    let x5 : Int32 := a3 + (Int32.ofInt (-1))
    (.inl (a0, a1, x5, M4)))
def HX97_head_2 (a0 : Nat) (a1 : Int64) (a3 : Int32) (M : FM) : Prop := ((a3 < 0 → True) ∧ (¬ (a3 < 0) → let x1 : Int32 := (M.1 416 a0 0); let x2 : Nat := (M.2.2 415 a0 0); (fm_in M x2 x1 = true ∧ True)))
theorem gX97_head_2 (k2 : Nat → Int64 → Int32 → FM → Option (FM)) (a0 : Nat) (a1 : Int64) (a3 : Int32) (M : FM) (T : Ty M) (n_a0 : fm_is M 100 100 a0 = true) (h : HX97_head_2 a0 a1 a3 M) : gs (FX97_head_2 fN k2 a0 a1 a3 M) (GX97_head_2 a0 a1 a3 M) (kX97_head k2) (pX97_head M) := by
  delta FX97_head_2 BX97_head_2
  refine gs_fi (fun c0_0 => ?_) (fun c0_0 => ?_)
  · exact And.intro rfl (And.intro (And.intro T.1 T.2) ((ext_r _)))
  · refine gs_c n_a0 ?_
    refine gs_c n_a0 ?_
    have f1 := (tN_415 T.1 n_a0)
    refine gs_c ⟨f1, (h.2 c0_0).1⟩ ?_
    refine gs_c n_a0 ?_
    refine gs_c n_a0 ?_
    exact And.intro rfl (And.intro (And.intro T.1 (tyb_sI (f := 416) rfl (tyb_s3 (t := 901) rfl T.2 f1))) ((ext_dI (ext_dI (ext_r _)))))
noncomputable def GX97_head (a0 : Nat) (a1 : Int64) (M : FM) : FM := (FX97_head fN a0 a1 M).getD M
def HX97_head (a0 : Nat) (a1 : Int64) (M : FM) : Prop := ∃ r, FX97_head fN a0 a1 M = some r ∧ OkV M r
theorem gX97_head (a0 : Nat) (a1 : Int64) (M : FM) (h : HX97_head a0 a1 M) : gd (FX97_head fN a0 a1 M) (GX97_head a0 a1 M) (OkV M) := gd_op h
def kX97_join (k95 : Nat → Int32 → FM → Option (FM)) (k141 : Nat → Int32 → FM → Option (FM)) : (Nat × Int32 × FM) ⊕ (Nat × Int32 × FM) ⊕ (FM) → Option (FM)
  | .inl (v0, v1, M') => k95 v0 v1 M'
  | .inr (.inl (v0, v1, M')) => k141 v0 v1 M'
  | .inr (.inr (r)) => some r
def pX97_join (M : FM) : (Nat × Int32 × FM) ⊕ (Nat × Int32 × FM) ⊕ (FM) → Prop
  | .inl (_, _, M') => OkV M M'
  | .inr (.inl (_, _, M')) => OkV M M'
  | .inr (.inr (r)) => OkV M r
theorem pX97_join_t {M M1 : FM} (e : Ext M M1) : ∀ y, pX97_join M1 y → pX97_join M y
  | .inl (_, _, _), h => ⟨h.1, ext_tr e h.2⟩
  | .inr (.inl (_, _, _)), h => ⟨h.1, ext_tr e h.2⟩
  | .inr (.inr (r)), h => ⟨h.1, ext_tr e h.2⟩
noncomputable def GX97_join_0 (a0 : Nat) (M : FM) : (Nat × Int32 × FM) ⊕ (Nat × Int32 × FM) ⊕ (FM) :=
  let M1 : FM := GX97_head a0 (Int64.ofInt 3490578157) M
  let M2 : FM := GX97_head a0 ((((Int32.ofInt 56) + (M1.1 418 a0 0)) + (M1.1 420 a0 0)).toInt64) M1
  let M3 : FM := GX97_head a0 (Int64.ofInt 56) M2
  let M4 : FM := GX97_head a0 (((Int32.ofInt 56) + (M3.1 418 a0 0)).toInt64) M3
  let M5 : FM := GX97_head a0 (Int64.ofInt 40) M4
  let M6 : FM := GX97_head a0 (Int64.ofInt 17) M5
  let M7 : FM := GX97_head a0 (Int64.ofInt 16) M6
  let M8 : FM := GX97_head a0 (Int64.ofInt 0) M7
  let M9 : FM := GX97_head a0 ((M8.1 420 a0 0).toInt64) M8
  let M10 : FM := GX97_head a0 ((M9.1 418 a0 0).toInt64) M9
  let M11 : FM := fm_sI M10 416 a0 0 (Int32.ofInt 56)
  (.inl (a0, (Int32.ofInt 0), M11))
def HX97_join_0 (a0 : Nat) (M : FM) : Prop := (HX97_head a0 (Int64.ofInt 3490578157) M ∧ let M1 : FM := GX97_head a0 (Int64.ofInt 3490578157) M; (HX97_head a0 ((((Int32.ofInt 56) + (M1.1 418 a0 0)) + (M1.1 420 a0 0)).toInt64) M1 ∧ let M2 : FM := GX97_head a0 ((((Int32.ofInt 56) + (M1.1 418 a0 0)) + (M1.1 420 a0 0)).toInt64) M1; (HX97_head a0 (Int64.ofInt 56) M2 ∧ let M3 : FM := GX97_head a0 (Int64.ofInt 56) M2; (HX97_head a0 (((Int32.ofInt 56) + (M3.1 418 a0 0)).toInt64) M3 ∧ let M4 : FM := GX97_head a0 (((Int32.ofInt 56) + (M3.1 418 a0 0)).toInt64) M3; (HX97_head a0 (Int64.ofInt 40) M4 ∧ let M5 : FM := GX97_head a0 (Int64.ofInt 40) M4; (HX97_head a0 (Int64.ofInt 17) M5 ∧ let M6 : FM := GX97_head a0 (Int64.ofInt 17) M5; (HX97_head a0 (Int64.ofInt 16) M6 ∧ let M7 : FM := GX97_head a0 (Int64.ofInt 16) M6; (HX97_head a0 (Int64.ofInt 0) M7 ∧ let M8 : FM := GX97_head a0 (Int64.ofInt 0) M7; (HX97_head a0 ((M8.1 420 a0 0).toInt64) M8 ∧ let M9 : FM := GX97_head a0 ((M8.1 420 a0 0).toInt64) M8; (HX97_head a0 ((M9.1 418 a0 0).toInt64) M9 ∧ True))))))))))
theorem gX97_join_0 (k95 : Nat → Int32 → FM → Option (FM)) (k141 : Nat → Int32 → FM → Option (FM)) (a0 : Nat) (M : FM) (T : Ty M) (n_a0 : fm_is M 100 100 a0 = true) (h : HX97_join_0 a0 M) : gs (FX97_join_0 fN k95 k141 a0 M) (GX97_join_0 a0 M) (kX97_join k95 k141) (pX97_join M) := by
  delta FX97_join_0 BX97_join_0
  refine gs_c n_a0 ?_
  refine gs_b (gX97_head _ _ _ h.1) (fun K0 => ?_)
  have f1 := (ext_is K0.2 (Nat.zero_lt_succ _) n_a0)
  refine gs_c f1 ?_
  have f2 := (ext_is K0.2 (Nat.zero_lt_succ _) n_a0)
  refine gs_c f2 ?_
  have f3 := (ext_is K0.2 (Nat.zero_lt_succ _) n_a0)
  refine gs_c f3 ?_
  refine gs_b (gX97_head _ _ _ h.2.1) (fun K4 => ?_)
  have f5 := (ext_is K4.2 (Nat.zero_lt_succ _) (ext_is K0.2 (Nat.zero_lt_succ _) n_a0))
  refine gs_c f5 ?_
  refine gs_b (gX97_head _ _ _ h.2.2.1) (fun K6 => ?_)
  have f7 := (ext_is K6.2 (Nat.zero_lt_succ _) (ext_is K4.2 (Nat.zero_lt_succ _) (ext_is K0.2 (Nat.zero_lt_succ _) n_a0)))
  refine gs_c f7 ?_
  have f8 := (ext_is K6.2 (Nat.zero_lt_succ _) (ext_is K4.2 (Nat.zero_lt_succ _) (ext_is K0.2 (Nat.zero_lt_succ _) n_a0)))
  refine gs_c f8 ?_
  refine gs_b (gX97_head _ _ _ h.2.2.2.1) (fun K9 => ?_)
  have f10 := (ext_is K9.2 (Nat.zero_lt_succ _) (ext_is K6.2 (Nat.zero_lt_succ _) (ext_is K4.2 (Nat.zero_lt_succ _) (ext_is K0.2 (Nat.zero_lt_succ _) n_a0))))
  refine gs_c f10 ?_
  refine gs_b (gX97_head _ _ _ h.2.2.2.2.1) (fun K11 => ?_)
  have f12 := (ext_is K11.2 (Nat.zero_lt_succ _) (ext_is K9.2 (Nat.zero_lt_succ _) (ext_is K6.2 (Nat.zero_lt_succ _) (ext_is K4.2 (Nat.zero_lt_succ _) (ext_is K0.2 (Nat.zero_lt_succ _) n_a0)))))
  refine gs_c f12 ?_
  refine gs_b (gX97_head _ _ _ h.2.2.2.2.2.1) (fun K13 => ?_)
  have f14 := (ext_is K13.2 (Nat.zero_lt_succ _) (ext_is K11.2 (Nat.zero_lt_succ _) (ext_is K9.2 (Nat.zero_lt_succ _) (ext_is K6.2 (Nat.zero_lt_succ _) (ext_is K4.2 (Nat.zero_lt_succ _) (ext_is K0.2 (Nat.zero_lt_succ _) n_a0))))))
  refine gs_c f14 ?_
  refine gs_b (gX97_head _ _ _ h.2.2.2.2.2.2.1) (fun K15 => ?_)
  have f16 := (ext_is K15.2 (Nat.zero_lt_succ _) (ext_is K13.2 (Nat.zero_lt_succ _) (ext_is K11.2 (Nat.zero_lt_succ _) (ext_is K9.2 (Nat.zero_lt_succ _) (ext_is K6.2 (Nat.zero_lt_succ _) (ext_is K4.2 (Nat.zero_lt_succ _) (ext_is K0.2 (Nat.zero_lt_succ _) n_a0)))))))
  refine gs_c f16 ?_
  refine gs_b (gX97_head _ _ _ h.2.2.2.2.2.2.2.1) (fun K17 => ?_)
  have f18 := (ext_is K17.2 (Nat.zero_lt_succ _) (ext_is K15.2 (Nat.zero_lt_succ _) (ext_is K13.2 (Nat.zero_lt_succ _) (ext_is K11.2 (Nat.zero_lt_succ _) (ext_is K9.2 (Nat.zero_lt_succ _) (ext_is K6.2 (Nat.zero_lt_succ _) (ext_is K4.2 (Nat.zero_lt_succ _) (ext_is K0.2 (Nat.zero_lt_succ _) n_a0))))))))
  refine gs_c f18 ?_
  have f19 := (ext_is K17.2 (Nat.zero_lt_succ _) (ext_is K15.2 (Nat.zero_lt_succ _) (ext_is K13.2 (Nat.zero_lt_succ _) (ext_is K11.2 (Nat.zero_lt_succ _) (ext_is K9.2 (Nat.zero_lt_succ _) (ext_is K6.2 (Nat.zero_lt_succ _) (ext_is K4.2 (Nat.zero_lt_succ _) (ext_is K0.2 (Nat.zero_lt_succ _) n_a0))))))))
  refine gs_c f19 ?_
  refine gs_b (gX97_head _ _ _ h.2.2.2.2.2.2.2.2.1) (fun K20 => ?_)
  have f21 := (ext_is K20.2 (Nat.zero_lt_succ _) (ext_is K17.2 (Nat.zero_lt_succ _) (ext_is K15.2 (Nat.zero_lt_succ _) (ext_is K13.2 (Nat.zero_lt_succ _) (ext_is K11.2 (Nat.zero_lt_succ _) (ext_is K9.2 (Nat.zero_lt_succ _) (ext_is K6.2 (Nat.zero_lt_succ _) (ext_is K4.2 (Nat.zero_lt_succ _) (ext_is K0.2 (Nat.zero_lt_succ _) n_a0)))))))))
  refine gs_c f21 ?_
  have f22 := (ext_is K20.2 (Nat.zero_lt_succ _) (ext_is K17.2 (Nat.zero_lt_succ _) (ext_is K15.2 (Nat.zero_lt_succ _) (ext_is K13.2 (Nat.zero_lt_succ _) (ext_is K11.2 (Nat.zero_lt_succ _) (ext_is K9.2 (Nat.zero_lt_succ _) (ext_is K6.2 (Nat.zero_lt_succ _) (ext_is K4.2 (Nat.zero_lt_succ _) (ext_is K0.2 (Nat.zero_lt_succ _) n_a0)))))))))
  refine gs_c f22 ?_
  refine gs_b (gX97_head _ _ _ h.2.2.2.2.2.2.2.2.2.1) (fun K23 => ?_)
  have f24 := (ext_is K23.2 (Nat.zero_lt_succ _) (ext_is K20.2 (Nat.zero_lt_succ _) (ext_is K17.2 (Nat.zero_lt_succ _) (ext_is K15.2 (Nat.zero_lt_succ _) (ext_is K13.2 (Nat.zero_lt_succ _) (ext_is K11.2 (Nat.zero_lt_succ _) (ext_is K9.2 (Nat.zero_lt_succ _) (ext_is K6.2 (Nat.zero_lt_succ _) (ext_is K4.2 (Nat.zero_lt_succ _) (ext_is K0.2 (Nat.zero_lt_succ _) n_a0))))))))))
  refine gs_c f24 ?_
  exact And.intro rfl (And.intro (And.intro K23.1.1 (tyb_sI (f := 416) rfl K23.1.2)) ((ext_tr K0.2 (ext_tr K4.2 (ext_tr K6.2 (ext_tr K9.2 (ext_tr K11.2 (ext_tr K13.2 (ext_tr K15.2 (ext_tr K17.2 (ext_tr K20.2 (ext_tr K23.2 (ext_dI (ext_r _))))))))))))))
noncomputable def GX97_join_141 (a0 : Nat) (a1 : Int32) (M : FM) : (Nat × Int32 × FM) ⊕ (Nat × Int32 × FM) ⊕ (FM) :=
  fi ((M.1 420 a0 0) ≤ a1) (
    let M1 : FM := fm_sI M 416 a0 0 ((M.1 416 a0 0) + (M.1 420 a0 0))
    (.inr (.inr M1))) (
    let x2 : Nat := (M.2.2 419 a0 0)
    let x3 : Int32 := ((M.1 416 a0 0) + a1)
    let x4 : Nat := (M.2.2 415 a0 0)
    let M5 : FM := fm_sI M 3 x4 x3.toNatClampNeg (M.1 3 x2 a1.toNatClampNeg)
    let x6 : Int32 := a1 + (Int32.ofInt 1)
    (.inr (.inl (a0, x6, M5))))
def HX97_join_141 (a0 : Nat) (a1 : Int32) (M : FM) : Prop := (((M.1 420 a0 0) ≤ a1 → True) ∧ (¬ ((M.1 420 a0 0) ≤ a1) → let x2 : Nat := (M.2.2 419 a0 0); (fm_in M x2 a1 = true ∧ let x3 : Int32 := ((M.1 416 a0 0) + a1); let x4 : Nat := (M.2.2 415 a0 0); (fm_in M x4 x3 = true ∧ True))))
theorem gX97_join_141 (k95 : Nat → Int32 → FM → Option (FM)) (k141 : Nat → Int32 → FM → Option (FM)) (a0 : Nat) (a1 : Int32) (M : FM) (T : Ty M) (n_a0 : fm_is M 100 100 a0 = true) (h : HX97_join_141 a0 a1 M) : gs (FX97_join_141 fN k95 k141 a0 a1 M) (GX97_join_141 a0 a1 M) (kX97_join k95 k141) (pX97_join M) := by
  delta FX97_join_141 BX97_join_141
  refine gs_c n_a0 ?_
  refine gs_fi (fun c0_0 => ?_) (fun c0_0 => ?_)
  · refine gs_c n_a0 ?_
    refine gs_c n_a0 ?_
    refine gs_c n_a0 ?_
    exact And.intro rfl (And.intro (And.intro T.1 (tyb_sI (f := 416) rfl T.2)) ((ext_dI (ext_r _))))
  · refine gs_c n_a0 ?_
    refine gs_c n_a0 ?_
    refine gs_c n_a0 ?_
    have f2 := (tN_419 T.1 n_a0)
    refine gs_c ⟨f2, (h.2 c0_0).1⟩ ?_
    have f1 := (tN_415 T.1 n_a0)
    refine gs_c ⟨f1, (h.2 c0_0).2.1⟩ ?_
    exact And.intro rfl (And.intro (And.intro T.1 (tyb_s3 (t := 901) rfl T.2 f1)) ((ext_dI (ext_r _))))
noncomputable def GX97_join_95 (a0 : Nat) (a1 : Int32) (M : FM) : (Nat × Int32 × FM) ⊕ (Nat × Int32 × FM) ⊕ (FM) :=
  fi ((M.1 418 a0 0) ≤ a1) (
    let M1 : FM := fm_sI M 416 a0 0 ((M.1 416 a0 0) + (M.1 418 a0 0))
    (.inr (.inl (a0, (Int32.ofInt 0), M1)))) (
    let x2 : Nat := (M.2.2 417 a0 0)
    let x3 : Int32 := ((M.1 416 a0 0) + a1)
    let x4 : Nat := (M.2.2 415 a0 0)
    let M5 : FM := fm_sI M 3 x4 x3.toNatClampNeg (M.1 3 x2 a1.toNatClampNeg)
    let x6 : Int32 := a1 + (Int32.ofInt 1)
    (.inl (a0, x6, M5)))
def HX97_join_95 (a0 : Nat) (a1 : Int32) (M : FM) : Prop := (((M.1 418 a0 0) ≤ a1 → True) ∧ (¬ ((M.1 418 a0 0) ≤ a1) → let x2 : Nat := (M.2.2 417 a0 0); (fm_in M x2 a1 = true ∧ let x3 : Int32 := ((M.1 416 a0 0) + a1); let x4 : Nat := (M.2.2 415 a0 0); (fm_in M x4 x3 = true ∧ True))))
theorem gX97_join_95 (k95 : Nat → Int32 → FM → Option (FM)) (k141 : Nat → Int32 → FM → Option (FM)) (a0 : Nat) (a1 : Int32) (M : FM) (T : Ty M) (n_a0 : fm_is M 100 100 a0 = true) (h : HX97_join_95 a0 a1 M) : gs (FX97_join_95 fN k95 k141 a0 a1 M) (GX97_join_95 a0 a1 M) (kX97_join k95 k141) (pX97_join M) := by
  delta FX97_join_95 BX97_join_95
  refine gs_c n_a0 ?_
  refine gs_fi (fun c0_0 => ?_) (fun c0_0 => ?_)
  · refine gs_c n_a0 ?_
    refine gs_c n_a0 ?_
    refine gs_c n_a0 ?_
    exact And.intro rfl (And.intro (And.intro T.1 (tyb_sI (f := 416) rfl T.2)) ((ext_dI (ext_r _))))
  · refine gs_c n_a0 ?_
    refine gs_c n_a0 ?_
    refine gs_c n_a0 ?_
    have f2 := (tN_417 T.1 n_a0)
    refine gs_c ⟨f2, (h.2 c0_0).1⟩ ?_
    have f1 := (tN_415 T.1 n_a0)
    refine gs_c ⟨f1, (h.2 c0_0).2.1⟩ ?_
    exact And.intro rfl (And.intro (And.intro T.1 (tyb_s3 (t := 901) rfl T.2 f1)) ((ext_dI (ext_r _))))
noncomputable def GX97_join (a0 : Nat) (M : FM) : FM := (FX97_join fN a0 M).getD M
def HX97_join (a0 : Nat) (M : FM) : Prop := ∃ r, FX97_join fN a0 M = some r ∧ OkV M r
theorem gX97_join (a0 : Nat) (M : FM) (h : HX97_join a0 M) : gd (FX97_join fN a0 M) (GX97_join a0 M) (OkV M) := gd_op h
def kX98_reset (k2 : Nat → Int64 → Int32 → FM → Option (FM)) : (Nat × Int64 × Int32 × FM) ⊕ (FM) → Option (FM)
  | .inl (v0, v1, v2, M') => k2 v0 v1 v2 M'
  | .inr (r) => some r
def pX98_reset (M : FM) : (Nat × Int64 × Int32 × FM) ⊕ (FM) → Prop
  | .inl (_, _, _, M') => OkV M M'
  | .inr (r) => OkV M r
theorem pX98_reset_t {M M1 : FM} (e : Ext M M1) : ∀ y, pX98_reset M1 y → pX98_reset M y
  | .inl (_, _, _, _), h => ⟨h.1, ext_tr e h.2⟩
  | .inr (r), h => ⟨h.1, ext_tr e h.2⟩
noncomputable def GX98_reset_0 (a0 : Nat) (a1 : Int64) (M : FM) : (Nat × Int64 × Int32 × FM) ⊕ (FM) :=
  (.inl (a0, a1, (Int32.ofInt 0), M))
theorem gX98_reset_0 (k2 : Nat → Int64 → Int32 → FM → Option (FM)) (a0 : Nat) (a1 : Int64) (M : FM) (T : Ty M) : gs (FX98_reset_0 fN k2 a0 a1 M) (GX98_reset_0 a0 a1 M) (kX98_reset k2) (pX98_reset M) := by
  delta FX98_reset_0 BX98_reset_0
  exact And.intro rfl (And.intro (And.intro T.1 T.2) ((ext_r _)))
noncomputable def GX98_reset_2 (a0 : Nat) (a1 : Int64) (a3 : Int32) (M : FM) : (Nat × Int64 × Int32 × FM) ⊕ (FM) :=
  fi ((Int32.ofInt 32) ≤ a3) (
    let M1 : FM := fm_sL M 347 a0 0 a1
    let M2 : FM := fm_sI M1 353 a0 0 (Int32.ofInt (-1))
    (.inr M2)) (
    let x3 : Nat := (M.2.2 346 a0 0)
    let M4 : FM := fm_sL M 3 x3 a3.toNatClampNeg (Int64.ofInt 0)
    let x5 : Int32 := a3 + (Int32.ofInt 1)
    (.inl (a0, a1, x5, M4)))
def HX98_reset_2 (a0 : Nat) (a1 : Int64) (a3 : Int32) (M : FM) : Prop := (((Int32.ofInt 32) ≤ a3 → True) ∧ (¬ ((Int32.ofInt 32) ≤ a3) → let x3 : Nat := (M.2.2 346 a0 0); (fm_in M x3 a3 = true ∧ True)))
theorem gX98_reset_2 (k2 : Nat → Int64 → Int32 → FM → Option (FM)) (a0 : Nat) (a1 : Int64) (a3 : Int32) (M : FM) (T : Ty M) (n_a0 : fm_is M 94 94 a0 = true) (h : HX98_reset_2 a0 a1 a3 M) : gs (FX98_reset_2 fN k2 a0 a1 a3 M) (GX98_reset_2 a0 a1 a3 M) (kX98_reset k2) (pX98_reset M) := by
  delta FX98_reset_2 BX98_reset_2
  refine gs_fi (fun c0_0 => ?_) (fun c0_0 => ?_)
  · refine gs_c n_a0 ?_
    refine gs_c n_a0 ?_
    exact And.intro rfl (And.intro (And.intro T.1 (tyb_sI (f := 353) rfl T.2)) ((ext_dL (ext_dI (ext_r _)))))
  · refine gs_c n_a0 ?_
    have f1 := (tN_346 T.1 n_a0)
    refine gs_c ⟨f1, (h.2 c0_0).1⟩ ?_
    exact And.intro rfl (And.intro (And.intro T.1 T.2) ((ext_dL (ext_r _))))
noncomputable def GX98_reset (a0 : Nat) (a1 : Int64) (M : FM) : FM := (FX98_reset fN a0 a1 M).getD M
def HX98_reset (a0 : Nat) (a1 : Int64) (M : FM) : Prop := ∃ r, FX98_reset fN a0 a1 M = some r ∧ OkV M r
theorem gX98_reset (a0 : Nat) (a1 : Int64) (M : FM) (h : HX98_reset a0 a1 M) : gd (FX98_reset fN a0 a1 M) (GX98_reset a0 a1 M) (OkV M) := gd_op h
def kX99_reset (k2 : Nat → Int32 → FM → Option (FM)) : (Nat × Int32 × FM) ⊕ (FM) → Option (FM)
  | .inl (v0, v1, M') => k2 v0 v1 M'
  | .inr (r) => some r
def pX99_reset (M : FM) : (Nat × Int32 × FM) ⊕ (FM) → Prop
  | .inl (_, _, M') => OkV M M'
  | .inr (r) => OkV M r
theorem pX99_reset_t {M M1 : FM} (e : Ext M M1) : ∀ y, pX99_reset M1 y → pX99_reset M y
  | .inl (_, _, _), h => ⟨h.1, ext_tr e h.2⟩
  | .inr (r), h => ⟨h.1, ext_tr e h.2⟩
noncomputable def GX99_reset_0 (a0 : Nat) (M : FM) : (Nat × Int32 × FM) ⊕ (FM) :=
  (.inl (a0, (Int32.ofInt 0), M))
theorem gX99_reset_0 (k2 : Nat → Int32 → FM → Option (FM)) (a0 : Nat) (M : FM) (T : Ty M) : gs (FX99_reset_0 fN k2 a0 M) (GX99_reset_0 a0 M) (kX99_reset k2) (pX99_reset M) := by
  delta FX99_reset_0 BX99_reset_0
  exact And.intro rfl (And.intro (And.intro T.1 T.2) ((ext_r _)))
noncomputable def GX99_reset_2 (a0 : Nat) (a1 : Int32) (M : FM) : (Nat × Int32 × FM) ⊕ (FM) :=
  fi ((Int32.ofInt 32) ≤ a1) (
    let M1 : FM := fm_sI M 368 a0 0 (Int32.ofInt 0)
    let M2 : FM := fm_sI M1 369 a0 0 (Int32.ofInt 0)
    let M3 : FM := fm_sL M2 370 a0 0 (Int64.ofInt 0)
    let M4 : FM := fm_sI M3 371 a0 0 (Int32.ofInt 0)
    (.inr M4)) (
    let x5 : Nat := (M.2.2 367 a0 0)
    let M6 : FM := fm_sL M 3 x5 a1.toNatClampNeg (Int64.ofInt 0)
    let x7 : Int32 := a1 + (Int32.ofInt 1)
    (.inl (a0, x7, M6)))
def HX99_reset_2 (a0 : Nat) (a1 : Int32) (M : FM) : Prop := (((Int32.ofInt 32) ≤ a1 → True) ∧ (¬ ((Int32.ofInt 32) ≤ a1) → let x5 : Nat := (M.2.2 367 a0 0); (fm_in M x5 a1 = true ∧ True)))
theorem gX99_reset_2 (k2 : Nat → Int32 → FM → Option (FM)) (a0 : Nat) (a1 : Int32) (M : FM) (T : Ty M) (n_a0 : fm_is M 96 96 a0 = true) (h : HX99_reset_2 a0 a1 M) : gs (FX99_reset_2 fN k2 a0 a1 M) (GX99_reset_2 a0 a1 M) (kX99_reset k2) (pX99_reset M) := by
  delta FX99_reset_2 BX99_reset_2
  refine gs_fi (fun c0_0 => ?_) (fun c0_0 => ?_)
  · refine gs_c n_a0 ?_
    refine gs_c n_a0 ?_
    refine gs_c n_a0 ?_
    refine gs_c n_a0 ?_
    refine gs_c fz_0 ?_
    exact And.intro rfl (And.intro (And.intro T.1 (tyb_sIb (f := 371) rfl (tyb_sI (f := 369) rfl (tyb_sI (f := 368) rfl T.2)) fz_0)) ((ext_dI (ext_dI (ext_dL (ext_dI (ext_r _)))))))
  · refine gs_c n_a0 ?_
    have f1 := (tN_367 T.1 n_a0)
    refine gs_c ⟨f1, (h.2 c0_0).1⟩ ?_
    exact And.intro rfl (And.intro (And.intro T.1 T.2) ((ext_dL (ext_r _))))
noncomputable def GX99_reset (a0 : Nat) (M : FM) : FM := (FX99_reset fN a0 M).getD M
def HX99_reset (a0 : Nat) (M : FM) : Prop := ∃ r, FX99_reset fN a0 M = some r ∧ OkV M r
theorem gX99_reset (a0 : Nat) (M : FM) (h : HX99_reset a0 M) : gd (FX99_reset fN a0 M) (GX99_reset a0 M) (OkV M) := gd_op h
def kX100_reset (k2 : Nat → Int32 → FM → Option (FM)) : (Nat × Int32 × FM) ⊕ (FM) → Option (FM)
  | .inl (v0, v1, M') => k2 v0 v1 M'
  | .inr (r) => some r
def pX100_reset (M : FM) : (Nat × Int32 × FM) ⊕ (FM) → Prop
  | .inl (_, _, M') => OkV M M'
  | .inr (r) => OkV M r
theorem pX100_reset_t {M M1 : FM} (e : Ext M M1) : ∀ y, pX100_reset M1 y → pX100_reset M y
  | .inl (_, _, _), h => ⟨h.1, ext_tr e h.2⟩
  | .inr (r), h => ⟨h.1, ext_tr e h.2⟩
noncomputable def GX100_reset_0 (a0 : Nat) (M : FM) : (Nat × Int32 × FM) ⊕ (FM) :=
  (.inl (a0, (Int32.ofInt 0), M))
theorem gX100_reset_0 (k2 : Nat → Int32 → FM → Option (FM)) (a0 : Nat) (M : FM) (T : Ty M) : gs (FX100_reset_0 fN k2 a0 M) (GX100_reset_0 a0 M) (kX100_reset k2) (pX100_reset M) := by
  delta FX100_reset_0 BX100_reset_0
  exact And.intro rfl (And.intro (And.intro T.1 T.2) ((ext_r _)))
noncomputable def GX100_reset_2 (a0 : Nat) (a1 : Int32) (M : FM) : (Nat × Int32 × FM) ⊕ (FM) :=
  fi ((Int32.ofInt 4096) ≤ a1) (
    let M1 : FM := fm_sI M 360 a0 0 (Int32.ofInt 3)
    let M2 : FM := fm_sL M1 364 a0 0 (Int64.ofInt 0)
    let M3 : FM := fm_sL M2 365 a0 0 (Int64.ofInt 0)
    (.inr M3)) (
    let x4 : Nat := (M.2.2 361 a0 0)
    let M5 : FM := fm_sL M 3 x4 a1.toNatClampNeg (Int64.ofInt 0)
    let x6 : Int32 := a1 + (Int32.ofInt 1)
    (.inl (a0, x6, M5)))
def HX100_reset_2 (a0 : Nat) (a1 : Int32) (M : FM) : Prop := (((Int32.ofInt 4096) ≤ a1 → True) ∧ (¬ ((Int32.ofInt 4096) ≤ a1) → let x4 : Nat := (M.2.2 361 a0 0); (fm_in M x4 a1 = true ∧ True)))
theorem gX100_reset_2 (k2 : Nat → Int32 → FM → Option (FM)) (a0 : Nat) (a1 : Int32) (M : FM) (T : Ty M) (n_a0 : fm_is M 95 95 a0 = true) (h : HX100_reset_2 a0 a1 M) : gs (FX100_reset_2 fN k2 a0 a1 M) (GX100_reset_2 a0 a1 M) (kX100_reset k2) (pX100_reset M) := by
  delta FX100_reset_2 BX100_reset_2
  refine gs_fi (fun c0_0 => ?_) (fun c0_0 => ?_)
  · refine gs_c n_a0 ?_
    refine gs_c n_a0 ?_
    refine gs_c n_a0 ?_
    exact And.intro rfl (And.intro (And.intro T.1 (tyb_sI (f := 360) rfl T.2)) ((ext_dI (ext_dL (ext_dL (ext_r _))))))
  · refine gs_c n_a0 ?_
    have f1 := (tN_361 T.1 n_a0)
    refine gs_c ⟨f1, (h.2 c0_0).1⟩ ?_
    exact And.intro rfl (And.intro (And.intro T.1 T.2) ((ext_dL (ext_r _))))
noncomputable def GX100_reset (a0 : Nat) (M : FM) : FM := (FX100_reset fN a0 M).getD M
def HX100_reset (a0 : Nat) (M : FM) : Prop := ∃ r, FX100_reset fN a0 M = some r ∧ OkV M r
theorem gX100_reset (a0 : Nat) (M : FM) (h : HX100_reset a0 M) : gd (FX100_reset fN a0 M) (GX100_reset a0 M) (OkV M) := gd_op h
def kX93_put (k76 : Nat → Int64 → Int32 → FM → Option (FM)) : (Nat × Int64 × Int32 × FM) ⊕ (FM) → Option (FM)
  | .inl (v0, v1, v2, M') => k76 v0 v1 v2 M'
  | .inr (r) => some r
def pX93_put (M : FM) : (Nat × Int64 × Int32 × FM) ⊕ (FM) → Prop
  | .inl (_, _, _, M') => OkV M M'
  | .inr (r) => OkV M r
theorem pX93_put_t {M M1 : FM} (e : Ext M M1) : ∀ y, pX93_put M1 y → pX93_put M y
  | .inl (_, _, _, _), h => ⟨h.1, ext_tr e h.2⟩
  | .inr (r), h => ⟨h.1, ext_tr e h.2⟩
noncomputable def GX93_put_131 (a0 : Nat) (a1 : Int64) (a6 : Int32) (s0 : Nat) (s1 : Int32) (s2 : Int64) (M : FM) : (Nat × Int64 × Int32 × FM) ⊕ (FM) :=
  let M1 : FM := fm_sL M 3 s0 s1.toNatClampNeg s2
  let x2 : Int32 := a6 + (Int32.ofInt 1)
  (.inl (a0, a1, x2, M1))
def HX93_put_131 (a0 : Nat) (a1 : Int64) (a6 : Int32) (s0 : Nat) (s1 : Int32) (s2 : Int64) (M : FM) : Prop := (fm_in M s0 s1 = true ∧ True)
theorem gX93_put_131 (k76 : Nat → Int64 → Int32 → FM → Option (FM)) (a0 : Nat) (a1 : Int64) (a6 : Int32) (s0 : Nat) (s1 : Int32) (s2 : Int64) (M : FM) (T : Ty M) (n_s0 : fm_is M 902 902 s0 = true) (h : HX93_put_131 a0 a1 a6 s0 s1 s2 M) : gs (FX93_put_131 fN k76 a0 a1 a6 s0 s1 s2 M) (GX93_put_131 a0 a1 a6 s0 s1 s2 M) (kX93_put k76) (pX93_put M) := by
  delta FX93_put_131 BX93_put_131
  refine gs_c ⟨n_s0, h.1⟩ ?_
  exact And.intro rfl (And.intro (And.intro T.1 T.2) ((ext_dL (ext_r _))))
noncomputable def GX93_put_124 (a0 : Nat) (a1 : Int64) (a6 : Int32) (s0 : Nat) (s1 : Int32) (M : FM) : (Nat × Int64 × Int32 × FM) ⊕ (FM) :=
  let x1 : Nat := (M.2.2 389 a0 0)
  GX93_put_131 a0 a1 a6 s0 s1 (M.2.1 3 x1 a6.toNatClampNeg) M
def HX93_put_124 (a0 : Nat) (a1 : Int64) (a6 : Int32) (s0 : Nat) (s1 : Int32) (M : FM) : Prop := let x1 : Nat := (M.2.2 389 a0 0); (fm_in M x1 a6 = true ∧ HX93_put_131 a0 a1 a6 s0 s1 (M.2.1 3 x1 a6.toNatClampNeg) M)
theorem gX93_put_124 (k76 : Nat → Int64 → Int32 → FM → Option (FM)) (a0 : Nat) (a1 : Int64) (a6 : Int32) (s0 : Nat) (s1 : Int32) (M : FM) (T : Ty M) (n_a0 : fm_is M 98 98 a0 = true) (n_s0 : fm_is M 902 902 s0 = true) (h : HX93_put_124 a0 a1 a6 s0 s1 M) : gs (FX93_put_124 fN k76 a0 a1 a6 s0 s1 M) (GX93_put_124 a0 a1 a6 s0 s1 M) (kX93_put k76) (pX93_put M) := by
  delta FX93_put_124 BX93_put_124
  refine gs_c n_a0 ?_
  have f0 := (tN_389 T.1 n_a0)
  refine gs_c ⟨f0, h.1⟩ ?_
  exact gs_t (pX93_put_t (ext_r _)) (gX93_put_131 k76 _ _ _ _ _ _ _ ⟨T.1, T.2⟩ n_s0 h.2)
noncomputable def GX93_put_0 (a0 : Nat) (a1 : Int64) (a3 : Int32) (M : FM) : (Nat × Int64 × Int32 × FM) ⊕ (FM) :=
  let x1 : Int32 := (a1 - (Int64.ofInt 2147483648)).toInt32
  let x2 : Int32 := ((Int32.ofInt 8) * (x1 - x1 / (Int32.ofInt 8) * (Int32.ofInt 8)))
  let x3 : Int32 := (x1 / (Int32.ofInt 8))
  let x4 : Nat := (M.2.2 388 a0 0)
  let x5 : Int32 := (x1 / (Int32.ofInt 8))
  let x6 : Nat := (M.2.2 388 a0 0)
  let M7 : FM := fm_sL M 3 x6 x5.toNatClampNeg (((M.2.1 3 x4 x3.toNatClampNeg) &&& (((Int64.ofInt 255) <<< (x2.toInt64 &&& 63)) ^^^ (Int64.ofInt (-1)))) ||| ((a3.toInt64 &&& (Int64.ofInt 255)) <<< (x2.toInt64 &&& 63)))
  let x8 : Int32 := (x1 / (Int32.ofInt 8))
  let x9 : Nat := (M7.2.2 391 a0 0)
  let M10 : FM := fm_sI M7 3 x9 x8.toNatClampNeg ((M7.1 3 x9 x8.toNatClampNeg) + (Int32.ofInt 1))
  (.inl (a0, a1, (Int32.ofInt 0), M10))
def HX93_put_0 (a0 : Nat) (a1 : Int64) (a3 : Int32) (M : FM) : Prop := let x1 : Int32 := (a1 - (Int64.ofInt 2147483648)).toInt32; let x2 : Int32 := ((Int32.ofInt 8) * (x1 - x1 / (Int32.ofInt 8) * (Int32.ofInt 8))); let x3 : Int32 := (x1 / (Int32.ofInt 8)); let x4 : Nat := (M.2.2 388 a0 0); (fm_in M x4 x3 = true ∧ let x5 : Int32 := (x1 / (Int32.ofInt 8)); let x6 : Nat := (M.2.2 388 a0 0); (fm_in M x6 x5 = true ∧ let M7 : FM := fm_sL M 3 x6 x5.toNatClampNeg (((M.2.1 3 x4 x3.toNatClampNeg) &&& (((Int64.ofInt 255) <<< (x2.toInt64 &&& 63)) ^^^ (Int64.ofInt (-1)))) ||| ((a3.toInt64 &&& (Int64.ofInt 255)) <<< (x2.toInt64 &&& 63))); let x8 : Int32 := (x1 / (Int32.ofInt 8)); let x9 : Nat := (M7.2.2 391 a0 0); (fm_in M7 x9 x8 = true ∧ (fm_in M7 x9 x8 = true ∧ True))))
theorem gX93_put_0 (k76 : Nat → Int64 → Int32 → FM → Option (FM)) (a0 : Nat) (a1 : Int64) (a3 : Int32) (M : FM) (T : Ty M) (n_a0 : fm_is M 98 98 a0 = true) (h : HX93_put_0 a0 a1 a3 M) : gs (FX93_put_0 fN k76 a0 a1 a3 M) (GX93_put_0 a0 a1 a3 M) (kX93_put k76) (pX93_put M) := by
  delta FX93_put_0 BX93_put_0
  refine gs_n (by decide) ?_
  refine gs_c n_a0 ?_
  refine gs_n (by decide) ?_
  refine gs_c n_a0 ?_
  refine gs_n (by decide) ?_
  have f3 := (tN_388 T.1 n_a0)
  refine gs_c ⟨f3, h.1⟩ ?_
  have f0 := (tN_388 T.1 n_a0)
  refine gs_c ⟨f0, h.2.1⟩ ?_
  refine gs_c n_a0 ?_
  refine gs_n (by decide) ?_
  have f2 := (tN_391 T.1 n_a0)
  refine gs_c ⟨f2, h.2.2.1⟩ ?_
  have f1 := (tN_391 T.1 n_a0)
  refine gs_c ⟨f1, h.2.2.2.1⟩ ?_
  exact And.intro rfl (And.intro (And.intro T.1 (tyb_s3 (t := 901) rfl T.2 f1)) ((ext_dL (ext_dI (ext_r _)))))
noncomputable def GX93_put_76 (a0 : Nat) (a1 : Int64) (a6 : Int32) (M : FM) : (Nat × Int64 × Int32 × FM) ⊕ (FM) :=
  fi ((Int32.ofInt 4) ≤ a6) (
    (.inr M)) (
    let x1 : Nat := (M.2.2 389 a0 0)
    fi ((lg_cmp (M.2.1 3 x1 a6.toNatClampNeg) (Int64.ofInt 0)) ≤ 0) (
      GX93_put_124 a0 a1 a6 (M.2.2 389 a0 0) a6 M) (
      let x2 : Nat := (M.2.2 389 a0 0)
      fi ((lg_cmp ((M.2.1 3 x2 a6.toNatClampNeg) / (Int64.ofInt 8)) (a1 / (Int64.ofInt 8))) = 0) (
        GX93_put_131 a0 a1 a6 (M.2.2 389 a0 0) a6 (Int64.ofInt 0) M) (
        GX93_put_124 a0 a1 a6 (M.2.2 389 a0 0) a6 M)))
def HX93_put_76 (a0 : Nat) (a1 : Int64) (a6 : Int32) (M : FM) : Prop := (((Int32.ofInt 4) ≤ a6 → True) ∧ (¬ ((Int32.ofInt 4) ≤ a6) → let x1 : Nat := (M.2.2 389 a0 0); (fm_in M x1 a6 = true ∧ (((lg_cmp (M.2.1 3 x1 a6.toNatClampNeg) (Int64.ofInt 0)) ≤ 0 → HX93_put_124 a0 a1 a6 (M.2.2 389 a0 0) a6 M) ∧ (¬ ((lg_cmp (M.2.1 3 x1 a6.toNatClampNeg) (Int64.ofInt 0)) ≤ 0) → let x2 : Nat := (M.2.2 389 a0 0); (fm_in M x2 a6 = true ∧ (((lg_cmp ((M.2.1 3 x2 a6.toNatClampNeg) / (Int64.ofInt 8)) (a1 / (Int64.ofInt 8))) = 0 → HX93_put_131 a0 a1 a6 (M.2.2 389 a0 0) a6 (Int64.ofInt 0) M) ∧ (¬ ((lg_cmp ((M.2.1 3 x2 a6.toNatClampNeg) / (Int64.ofInt 8)) (a1 / (Int64.ofInt 8))) = 0) → HX93_put_124 a0 a1 a6 (M.2.2 389 a0 0) a6 M))))))))
theorem gX93_put_76 (k76 : Nat → Int64 → Int32 → FM → Option (FM)) (a0 : Nat) (a1 : Int64) (a6 : Int32) (M : FM) (T : Ty M) (n_a0 : fm_is M 98 98 a0 = true) (h : HX93_put_76 a0 a1 a6 M) : gs (FX93_put_76 fN k76 a0 a1 a6 M) (GX93_put_76 a0 a1 a6 M) (kX93_put k76) (pX93_put M) := by
  delta FX93_put_76 BX93_put_76
  refine gs_fi (fun c0_0 => ?_) (fun c0_0 => ?_)
  · exact And.intro rfl (And.intro (And.intro T.1 T.2) ((ext_r _)))
  · refine gs_c n_a0 ?_
    refine gs_c n_a0 ?_
    have f8 := (tN_389 T.1 n_a0)
    refine gs_c ⟨f8, (h.2 c0_0).1⟩ ?_
    refine gs_fi (fun c1_0 => ?_) (fun c1_0 => ?_)
    · have f2 := (tN_389 T.1 n_a0)
      exact gs_t (pX93_put_t (ext_r _)) (gX93_put_124 k76 _ _ _ _ _ _ ⟨T.1, T.2⟩ n_a0 f2 ((h.2 c0_0).2.1 c1_0))
    · refine gs_c n_a0 ?_
      have f6 := (tN_389 T.1 n_a0)
      have f7 := ((h.2 c0_0).2.2 c1_0).1
      refine gs_c ⟨f6, f7⟩ ?_
      refine gs_n (by decide) ?_
      refine gs_n (by decide) ?_
      refine gs_fi (fun c3_0 => ?_) (fun c3_0 => ?_)
      · have f4 := (tN_389 T.1 n_a0)
        exact gs_t (pX93_put_t (ext_r _)) (gX93_put_131 k76 _ _ _ _ _ _ _ ⟨T.1, T.2⟩ f4 (((h.2 c0_0).2.2 c1_0).2.1 c3_0))
      · have f5 := (tN_389 T.1 n_a0)
        exact gs_t (pX93_put_t (ext_r _)) (gX93_put_124 k76 _ _ _ _ _ _ ⟨T.1, T.2⟩ n_a0 f5 (((h.2 c0_0).2.2 c1_0).2.2 c3_0))
noncomputable def GX93_put (a0 : Nat) (a1 : Int64) (a2 : Int32) (M : FM) : FM := (FX93_put fN a0 a1 a2 M).getD M
def HX93_put (a0 : Nat) (a1 : Int64) (a2 : Int32) (M : FM) : Prop := ∃ r, FX93_put fN a0 a1 a2 M = some r ∧ OkV M r
theorem gX93_put (a0 : Nat) (a1 : Int64) (a2 : Int32) (M : FM) (h : HX93_put a0 a1 a2 M) : gd (FX93_put fN a0 a1 a2 M) (GX93_put a0 a1 a2 M) (OkV M) := gd_op h
noncomputable def GX98_isRegister_15 (s0 : Int32) (M : FM) : Int32 × FM :=
  (s0, M)
theorem gX98_isRegister_15 (s0 : Int32) (M : FM) (T : Ty M) (z_s0 : s0 = 0 ∨ s0 = 1) : gd (FX98_isRegister_15 s0 M) (GX98_isRegister_15 s0 M) (OkZ M) := by
  delta FX98_isRegister_15 BX98_isRegister_15
  exact gd_z z_s0 ⟨T.1, T.2⟩ (ext_r _) rfl
noncomputable def GX98_isRegister_14 (M : FM) : Int32 × FM :=
  GX98_isRegister_15 (Int32.ofInt 0) M
theorem gX98_isRegister_14 (M : FM) (T : Ty M) : gd (FX98_isRegister_14 M) (GX98_isRegister_14 M) (OkZ M) := by
  delta FX98_isRegister_14 BX98_isRegister_14
  exact gd_tZ (ext_r _) (gX98_isRegister_15 _ _ ⟨T.1, T.2⟩ fz_0 )
noncomputable def GX98_isRegister_0 (a0 : Int32) (M : FM) : Int32 × FM :=
  fi (a0 < 0) (
    GX98_isRegister_14 M) (
    fi ((Int32.ofInt 32) ≤ a0) (
      GX98_isRegister_14 M) (
      GX98_isRegister_15 (Int32.ofInt 1) M))
theorem gX98_isRegister_0 (a0 : Int32) (M : FM) (T : Ty M) : gd (FX98_isRegister_0 a0 M) (GX98_isRegister_0 a0 M) (OkZ M) := by
  delta FX98_isRegister_0 BX98_isRegister_0
  refine gd_fi (fun c0_0 => ?_) (fun c0_0 => ?_)
  · exact gd_tZ (ext_r _) (gX98_isRegister_14  _ ⟨T.1, T.2⟩  )
  · refine gd_fi (fun c1_0 => ?_) (fun c1_0 => ?_)
    · exact gd_tZ (ext_r _) (gX98_isRegister_14  _ ⟨T.1, T.2⟩  )
    · exact gd_tZ (ext_r _) (gX98_isRegister_15 _ _ ⟨T.1, T.2⟩ fz_1 )
noncomputable def GX98_isRegister (a0 : Int32) (M : FM) : Int32 × FM := GX98_isRegister_0 a0 M
theorem gX98_isRegister (a0 : Int32) (M : FM) (T : Ty M) : gd (FX98_isRegister a0 M) (GX98_isRegister a0 M) (OkZ M) := gX98_isRegister_0 a0 M T 
noncomputable def GX98_put_11 (M : FM) : FM :=
  M
theorem gX98_put_11 (M : FM) (T : Ty M) : gd (FX98_put_11 M) (GX98_put_11 M) (OkV M) := by
  delta FX98_put_11 BX98_put_11
  exact ⟨rfl, ⟨T.1, T.2⟩, (ext_r _)⟩
noncomputable def GX98_put_0 (a0 : Nat) (a1 : Int32) (a2 : Int64) (M : FM) : FM :=
  fi (a1 ≤ 0) (
    GX98_put_11 M) (
    let x1 : Nat := (M.2.2 346 a0 0)
    let M2 : FM := fm_sL M 3 x1 a1.toNatClampNeg a2
    GX98_put_11 M2)
def HX98_put_0 (a0 : Nat) (a1 : Int32) (a2 : Int64) (M : FM) : Prop := ((a1 ≤ 0 → True) ∧ (¬ (a1 ≤ 0) → let x1 : Nat := (M.2.2 346 a0 0); (fm_in M x1 a1 = true ∧ True)))
theorem gX98_put_0 (a0 : Nat) (a1 : Int32) (a2 : Int64) (M : FM) (T : Ty M) (n_a0 : fm_is M 94 94 a0 = true) (h : HX98_put_0 a0 a1 a2 M) : gd (FX98_put_0 a0 a1 a2 M) (GX98_put_0 a0 a1 a2 M) (OkV M) := by
  delta FX98_put_0 BX98_put_0
  refine gd_fi (fun c0_0 => ?_) (fun c0_0 => ?_)
  · exact gd_tV (ext_r _) (gX98_put_11  _ ⟨T.1, T.2⟩  )
  · refine gd_c n_a0 ?_
    have f1 := (tN_346 T.1 n_a0)
    refine gd_c ⟨f1, (h.2 c0_0).1⟩ ?_
    exact gd_tV (ext_dL (ext_r _)) (gX98_put_11  _ ⟨T.1, T.2⟩  )
noncomputable def GX98_put (a0 : Nat) (a1 : Int32) (a2 : Int64) (M : FM) : FM := GX98_put_0 a0 a1 a2 M
def HX98_put (a0 : Nat) (a1 : Int32) (a2 : Int64) (M : FM) : Prop := HX98_put_0 a0 a1 a2 M
theorem gX98_put (a0 : Nat) (a1 : Int32) (a2 : Int64) (M : FM) (T : Ty M) (n_a0 : fm_is M 94 94 a0 = true) (h : HX98_put a0 a1 a2 M) : gd (FX98_put a0 a1 a2 M) (GX98_put a0 a1 a2 M) (OkV M) := gX98_put_0 a0 a1 a2 M T n_a0 h
noncomputable def GX98_set_29 (M : FM) : FM :=
  M
theorem gX98_set_29 (M : FM) (T : Ty M) : gd (FX98_set_29 M) (GX98_set_29 M) (OkV M) := by
  delta FX98_set_29 BX98_set_29
  exact ⟨rfl, ⟨T.1, T.2⟩, (ext_r _)⟩
noncomputable def GX98_set_13 (a0 : Nat) (a1 : Int32) (a2 : Int64) (s0 : Nat) (s1 : Int32) (M : FM) : FM :=
  let M1 : FM := fm_sI M 345 s0 0 s1
  fi ((M1.1 345 a0 0) = 0) (
    let M2 : FM := GX98_put a0 a1 a2 M1
    GX98_set_29 M2) (
    GX98_set_29 M1)
def HX98_set_13 (a0 : Nat) (a1 : Int32) (a2 : Int64) (s0 : Nat) (s1 : Int32) (M : FM) : Prop := let M1 : FM := fm_sI M 345 s0 0 s1; (((M1.1 345 a0 0) = 0 → (HX98_put a0 a1 a2 M1 ∧ True)) ∧ (¬ ((M1.1 345 a0 0) = 0) → True))
theorem gX98_set_13 (a0 : Nat) (a1 : Int32) (a2 : Int64) (s0 : Nat) (s1 : Int32) (M : FM) (T : Ty M) (n_s0 : fm_is M 94 94 s0 = true) (n_a0 : fm_is M 94 94 a0 = true) (h : HX98_set_13 a0 a1 a2 s0 s1 M) : gd (FX98_set_13 a0 a1 a2 s0 s1 M) (GX98_set_13 a0 a1 a2 s0 s1 M) (OkV M) := by
  delta FX98_set_13 BX98_set_13
  refine gd_c n_s0 ?_
  refine gd_c n_a0 ?_
  refine gd_fi (fun c0_0 => ?_) (fun c0_0 => ?_)
  · refine gd_c n_a0 ?_
    refine gd_b (gX98_put _ _ _ _ ⟨T.1, (tyb_sI (f := 345) rfl T.2)⟩ n_a0 (h.1 c0_0).1) (fun K1 => ?_)
    exact gd_tV (ext_dI K1.2) (gX98_set_29  _ ⟨K1.1.1, K1.1.2⟩  )
  · exact gd_tV (ext_dI (ext_r _)) (gX98_set_29  _ ⟨T.1, (tyb_sI (f := 345) rfl T.2)⟩  )
noncomputable def GX98_set_0 (a0 : Nat) (a1 : Int32) (a2 : Int64) (M : FM) : FM :=
  let r1 : Int32 × FM := GX98_isRegister a1 M
  fi (r1.1 = 0) (
    GX98_set_13 a0 a1 a2 a0 (Int32.ofInt 1) r1.2) (
    GX98_set_13 a0 a1 a2 a0 (Int32.ofInt 0) r1.2)
def HX98_set_0 (a0 : Nat) (a1 : Int32) (a2 : Int64) (M : FM) : Prop := let r1 : Int32 × FM := GX98_isRegister a1 M; ((r1.1 = 0 → HX98_set_13 a0 a1 a2 a0 (Int32.ofInt 1) r1.2) ∧ (¬ (r1.1 = 0) → HX98_set_13 a0 a1 a2 a0 (Int32.ofInt 0) r1.2))
theorem gX98_set_0 (a0 : Nat) (a1 : Int32) (a2 : Int64) (M : FM) (T : Ty M) (n_a0 : fm_is M 94 94 a0 = true) (h : HX98_set_0 a0 a1 a2 M) : gd (FX98_set_0 a0 a1 a2 M) (GX98_set_0 a0 a1 a2 M) (OkV M) := by
  delta FX98_set_0 BX98_set_0
  refine gd_b (gX98_isRegister _ _ ⟨T.1, T.2⟩  ) (fun K0 => ?_)
  refine gd_fi (fun c1_0 => ?_) (fun c1_0 => ?_)
  · have f2 := (ext_is K0.2.1 (Nat.zero_lt_succ _) n_a0)
    have f3 := (ext_is K0.2.1 (Nat.zero_lt_succ _) n_a0)
    exact gd_tV K0.2.1 (gX98_set_13 _ _ _ _ _ _ ⟨K0.1.1, K0.1.2⟩ f2 f3 (h.1 c1_0))
  · have f4 := (ext_is K0.2.1 (Nat.zero_lt_succ _) n_a0)
    have f5 := (ext_is K0.2.1 (Nat.zero_lt_succ _) n_a0)
    exact gd_tV K0.2.1 (gX98_set_13 _ _ _ _ _ _ ⟨K0.1.1, K0.1.2⟩ f4 f5 (h.2 c1_0))
noncomputable def GX98_set (a0 : Nat) (a1 : Int32) (a2 : Int64) (M : FM) : FM := GX98_set_0 a0 a1 a2 M
def HX98_set (a0 : Nat) (a1 : Int32) (a2 : Int64) (M : FM) : Prop := HX98_set_0 a0 a1 a2 M
theorem gX98_set (a0 : Nat) (a1 : Int32) (a2 : Int64) (M : FM) (T : Ty M) (n_a0 : fm_is M 94 94 a0 = true) (h : HX98_set a0 a1 a2 M) : gd (FX98_set a0 a1 a2 M) (GX98_set a0 a1 a2 M) (OkV M) := gX98_set_0 a0 a1 a2 M T n_a0 h
def kX101_reset (k2 : Nat → Int32 → FM → Option (FM)) : (Nat × Int32 × FM) ⊕ (FM) → Option (FM)
  | .inl (v0, v1, M') => k2 v0 v1 M'
  | .inr (r) => some r
def pX101_reset (M : FM) : (Nat × Int32 × FM) ⊕ (FM) → Prop
  | .inl (_, _, M') => OkV M M'
  | .inr (r) => OkV M r
theorem pX101_reset_t {M M1 : FM} (e : Ext M M1) : ∀ y, pX101_reset M1 y → pX101_reset M y
  | .inl (_, _, _), h => ⟨h.1, ext_tr e h.2⟩
  | .inr (r), h => ⟨h.1, ext_tr e h.2⟩
noncomputable def GX101_reset_0 (a0 : Nat) (M : FM) : (Nat × Int32 × FM) ⊕ (FM) :=
  (.inl (a0, (Int32.ofInt 0), M))
theorem gX101_reset_0 (k2 : Nat → Int32 → FM → Option (FM)) (a0 : Nat) (M : FM) (T : Ty M) : gs (FX101_reset_0 fN k2 a0 M) (GX101_reset_0 a0 M) (kX101_reset k2) (pX101_reset M) := by
  delta FX101_reset_0 BX101_reset_0
  exact And.intro rfl (And.intro (And.intro T.1 T.2) ((ext_r _)))
noncomputable def GX101_reset_2 (a0 : Nat) (a1 : Int32) (M : FM) : (Nat × Int32 × FM) ⊕ (FM) :=
  fi ((Int32.ofInt 8) ≤ a1) (
    (.inr M)) (
    let x1 : Nat := (M.2.2 427 a0 0)
    let M2 : FM := fm_sI M 3 x1 a1.toNatClampNeg (Int32.ofInt 0)
    let x3 : Nat := (M2.2.2 428 a0 0)
    let M4 : FM := fm_sL M2 3 x3 a1.toNatClampNeg (Int64.ofInt 0)
    let x5 : Int32 := a1 + (Int32.ofInt 1)
    (.inl (a0, x5, M4)))
def HX101_reset_2 (a0 : Nat) (a1 : Int32) (M : FM) : Prop := (((Int32.ofInt 8) ≤ a1 → True) ∧ (¬ ((Int32.ofInt 8) ≤ a1) → let x1 : Nat := (M.2.2 427 a0 0); (fm_in M x1 a1 = true ∧ let M2 : FM := fm_sI M 3 x1 a1.toNatClampNeg (Int32.ofInt 0); let x3 : Nat := (M2.2.2 428 a0 0); (fm_in M2 x3 a1 = true ∧ True))))
theorem gX101_reset_2 (k2 : Nat → Int32 → FM → Option (FM)) (a0 : Nat) (a1 : Int32) (M : FM) (T : Ty M) (n_a0 : fm_is M 101 101 a0 = true) (h : HX101_reset_2 a0 a1 M) : gs (FX101_reset_2 fN k2 a0 a1 M) (GX101_reset_2 a0 a1 M) (kX101_reset k2) (pX101_reset M) := by
  delta FX101_reset_2 BX101_reset_2
  refine gs_fi (fun c0_0 => ?_) (fun c0_0 => ?_)
  · exact And.intro rfl (And.intro (And.intro T.1 T.2) ((ext_r _)))
  · refine gs_c n_a0 ?_
    have f1 := (tN_427 T.1 n_a0)
    refine gs_c ⟨f1, (h.2 c0_0).1⟩ ?_
    refine gs_c n_a0 ?_
    have f2 := (tN_428 T.1 n_a0)
    refine gs_c ⟨f2, (h.2 c0_0).2.1⟩ ?_
    exact And.intro rfl (And.intro (And.intro T.1 (tyb_s3 (t := 901) rfl T.2 f1)) ((ext_dI (ext_dL (ext_r _)))))
noncomputable def GX101_reset (a0 : Nat) (M : FM) : FM := (FX101_reset fN a0 M).getD M
def HX101_reset (a0 : Nat) (M : FM) : Prop := ∃ r, FX101_reset fN a0 M = some r ∧ OkV M r
theorem gX101_reset (a0 : Nat) (M : FM) (h : HX101_reset a0 M) : gd (FX101_reset fN a0 M) (GX101_reset a0 M) (OkV M) := gd_op h
noncomputable def GX93_drop_0 (a0 : Nat) (a1 : Int32) (M : FM) : FM :=
  let x1 : Nat := (M.2.2 389 a0 0)
  let M2 : FM := fm_sL M 3 x1 a1.toNatClampNeg (Int64.ofInt 0)
  M2
def HX93_drop_0 (a0 : Nat) (a1 : Int32) (M : FM) : Prop := let x1 : Nat := (M.2.2 389 a0 0); (fm_in M x1 a1 = true ∧ True)
theorem gX93_drop_0 (a0 : Nat) (a1 : Int32) (M : FM) (T : Ty M) (n_a0 : fm_is M 98 98 a0 = true) (h : HX93_drop_0 a0 a1 M) : gd (FX93_drop_0 a0 a1 M) (GX93_drop_0 a0 a1 M) (OkV M) := by
  delta FX93_drop_0 BX93_drop_0
  refine gd_c n_a0 ?_
  have f0 := (tN_389 T.1 n_a0)
  refine gd_c ⟨f0, h.1⟩ ?_
  exact ⟨rfl, ⟨T.1, T.2⟩, (ext_dL (ext_r _))⟩
noncomputable def GX93_drop (a0 : Nat) (a1 : Int32) (M : FM) : FM := GX93_drop_0 a0 a1 M
def HX93_drop (a0 : Nat) (a1 : Int32) (M : FM) : Prop := HX93_drop_0 a0 a1 M
theorem gX93_drop (a0 : Nat) (a1 : Int32) (M : FM) (T : Ty M) (n_a0 : fm_is M 98 98 a0 = true) (h : HX93_drop a0 a1 M) : gd (FX93_drop a0 a1 M) (GX93_drop a0 a1 M) (OkV M) := gX93_drop_0 a0 a1 M T n_a0 h
def kX92_begin (k2 : Nat → Int32 → FM → Option (Int32 × FM)) (k73 : Nat → Int32 → FM → Option (Int32 × FM)) (k114 : Nat → Int32 → FM → Option (Int32 × FM)) : (Nat × Int32 × FM) ⊕ (Nat × Int32 × FM) ⊕ (Nat × Int32 × FM) ⊕ (Int32 × FM) → Option (Int32 × FM)
  | .inl (v0, v1, M') => k2 v0 v1 M'
  | .inr (.inl (v0, v1, M')) => k73 v0 v1 M'
  | .inr (.inr (.inl (v0, v1, M'))) => k114 v0 v1 M'
  | .inr (.inr (.inr (r))) => some r
def pX92_begin (M : FM) : (Nat × Int32 × FM) ⊕ (Nat × Int32 × FM) ⊕ (Nat × Int32 × FM) ⊕ (Int32 × FM) → Prop
  | .inl (_, _, M') => OkV M M'
  | .inr (.inl (_, _, M')) => OkV M M'
  | .inr (.inr (.inl (_, _, M'))) => OkV M M'
  | .inr (.inr (.inr (r))) => OkR M r
theorem pX92_begin_t {M M1 : FM} (e : Ext M M1) : ∀ y, pX92_begin M1 y → pX92_begin M y
  | .inl (_, _, _), h => ⟨h.1, ext_tr e h.2⟩
  | .inr (.inl (_, _, _)), h => ⟨h.1, ext_tr e h.2⟩
  | .inr (.inr (.inl (_, _, _))), h => ⟨h.1, ext_tr e h.2⟩
  | .inr (.inr (.inr (r))), h => ⟨h.1, ext_tr e h.2⟩
noncomputable def GX92_begin_0 (a0 : Nat) (M : FM) : (Nat × Int32 × FM) ⊕ (Nat × Int32 × FM) ⊕ (Nat × Int32 × FM) ⊕ (Int32 × FM) :=
  (.inl (a0, (Int32.ofInt 0), M))
theorem gX92_begin_0 (k2 : Nat → Int32 → FM → Option (Int32 × FM)) (k73 : Nat → Int32 → FM → Option (Int32 × FM)) (k114 : Nat → Int32 → FM → Option (Int32 × FM)) (a0 : Nat) (M : FM) (T : Ty M) : gs (FX92_begin_0 fN k2 k73 k114 a0 M) (GX92_begin_0 a0 M) (kX92_begin k2 k73 k114) (pX92_begin M) := by
  delta FX92_begin_0 BX92_begin_0
  exact And.intro rfl (And.intro (And.intro T.1 T.2) ((ext_r _)))
noncomputable def GX92_begin_114 (a0 : Nat) (a1 : Int32) (M : FM) : (Nat × Int32 × FM) ⊕ (Nat × Int32 × FM) ⊕ (Nat × Int32 × FM) ⊕ (Int32 × FM) :=
  fi ((M.1 297 a0 0) ≤ a1) (
    let M1 : FM := fm_sI M 315 a0 0 (Int32.ofInt (-1))
    let x2 : Nat := (M1.2.2 302 a0 0)
    (.inr (.inr (.inr ((M1.1 416 x2 0), M1))))) (
    let x3 : Nat := (M.2.2 303 a0 0)
    let x4 : Nat := (M.2.2 3 x3 a1.toNatClampNeg)
    let M5 : FM := GX98_set x4 (Int32.ofInt 10) a1.toInt64 M
    let x6 : Nat := (M5.2.2 303 a0 0)
    let x7 : Nat := (M5.2.2 3 x6 a1.toNatClampNeg)
    let M8 : FM := GX98_set x7 (Int32.ofInt 11) (Int64.ofInt 2151669760) M5
    let x9 : Int32 := a1 + (Int32.ofInt 1)
    (.inr (.inr (.inl (a0, x9, M8)))))
def HX92_begin_114 (a0 : Nat) (a1 : Int32) (M : FM) : Prop := (((M.1 297 a0 0) ≤ a1 → True) ∧ (¬ ((M.1 297 a0 0) ≤ a1) → let x3 : Nat := (M.2.2 303 a0 0); (fm_in M x3 a1 = true ∧ let x4 : Nat := (M.2.2 3 x3 a1.toNatClampNeg); (fm_is M 94 94 x4 = true ∧ (HX98_set x4 (Int32.ofInt 10) a1.toInt64 M ∧ let M5 : FM := GX98_set x4 (Int32.ofInt 10) a1.toInt64 M; let x6 : Nat := (M5.2.2 303 a0 0); (fm_in M5 x6 a1 = true ∧ let x7 : Nat := (M5.2.2 3 x6 a1.toNatClampNeg); (fm_is M5 94 94 x7 = true ∧ (HX98_set x7 (Int32.ofInt 11) (Int64.ofInt 2151669760) M5 ∧ True))))))))
theorem gX92_begin_114 (k2 : Nat → Int32 → FM → Option (Int32 × FM)) (k73 : Nat → Int32 → FM → Option (Int32 × FM)) (k114 : Nat → Int32 → FM → Option (Int32 × FM)) (a0 : Nat) (a1 : Int32) (M : FM) (T : Ty M) (n_a0 : fm_is M 92 92 a0 = true) (h : HX92_begin_114 a0 a1 M) : gs (FX92_begin_114 fN k2 k73 k114 a0 a1 M) (GX92_begin_114 a0 a1 M) (kX92_begin k2 k73 k114) (pX92_begin M) := by
  delta FX92_begin_114 BX92_begin_114
  refine gs_c n_a0 ?_
  refine gs_fi (fun c0_0 => ?_) (fun c0_0 => ?_)
  · refine gs_c n_a0 ?_
    refine gs_c n_a0 ?_
    have f1 := (tN_302 T.1 n_a0)
    refine gs_c f1 ?_
    exact And.intro rfl (And.intro (And.intro T.1 (tyb_sI (f := 315) rfl T.2)) ((ext_dI (ext_r _))))
  · refine gs_c n_a0 ?_
    have f6 := (fm_w (lo' := 910) (hi' := 990) rfl rfl (tN_303 T.1 n_a0))
    refine gs_c ⟨f6, (h.2 c0_0).1⟩ ?_
    refine gs_c (h.2 c0_0).2.1 ?_
    refine gs_b (gX98_set _ _ _ _ ⟨T.1, T.2⟩ (h.2 c0_0).2.1 (h.2 c0_0).2.2.1) (fun K2 => ?_)
    have f3 := (ext_is K2.2 (Nat.zero_lt_succ _) n_a0)
    refine gs_c f3 ?_
    have f5 := (fm_w (lo' := 910) (hi' := 990) rfl rfl (tN_303 K2.1.1 (ext_is K2.2 (Nat.zero_lt_succ _) n_a0)))
    refine gs_c ⟨f5, (h.2 c0_0).2.2.2.1⟩ ?_
    refine gs_c (h.2 c0_0).2.2.2.2.1 ?_
    refine gs_b (gX98_set _ _ _ _ ⟨K2.1.1, K2.1.2⟩ (h.2 c0_0).2.2.2.2.1 (h.2 c0_0).2.2.2.2.2.1) (fun K4 => ?_)
    exact And.intro rfl (And.intro (And.intro K4.1.1 K4.1.2) ((ext_tr K2.2 K4.2)))
noncomputable def GX92_begin_73 (a0 : Nat) (a1 : Int32) (M : FM) : (Nat × Int32 × FM) ⊕ (Nat × Int32 × FM) ⊕ (Nat × Int32 × FM) ⊕ (Int32 × FM) :=
  let x1 : Nat := (M.2.2 302 a0 0)
  fi ((M.1 416 x1 0) ≤ a1) (
    (.inr (.inr (.inl (a0, (Int32.ofInt 0), M))))) (
    let x2 : Nat := (M.2.2 302 a0 0)
    let x3 : Nat := (M.2.2 415 x2 0)
    let x4 : Nat := (M.2.2 298 a0 0)
    let M5 : FM := GX93_put x4 ((Int64.ofInt 2151669760) + a1.toInt64) (M.1 3 x3 a1.toNatClampNeg) M
    let x6 : Int32 := a1 + (Int32.ofInt 1)
    (.inr (.inl (a0, x6, M5))))
def HX92_begin_73 (a0 : Nat) (a1 : Int32) (M : FM) : Prop := let x1 : Nat := (M.2.2 302 a0 0); (((M.1 416 x1 0) ≤ a1 → True) ∧ (¬ ((M.1 416 x1 0) ≤ a1) → let x2 : Nat := (M.2.2 302 a0 0); let x3 : Nat := (M.2.2 415 x2 0); (fm_in M x3 a1 = true ∧ let x4 : Nat := (M.2.2 298 a0 0); (HX93_put x4 ((Int64.ofInt 2151669760) + a1.toInt64) (M.1 3 x3 a1.toNatClampNeg) M ∧ True))))
theorem gX92_begin_73 (k2 : Nat → Int32 → FM → Option (Int32 × FM)) (k73 : Nat → Int32 → FM → Option (Int32 × FM)) (k114 : Nat → Int32 → FM → Option (Int32 × FM)) (a0 : Nat) (a1 : Int32) (M : FM) (T : Ty M) (n_a0 : fm_is M 92 92 a0 = true) (h : HX92_begin_73 a0 a1 M) : gs (FX92_begin_73 fN k2 k73 k114 a0 a1 M) (GX92_begin_73 a0 a1 M) (kX92_begin k2 k73 k114) (pX92_begin M) := by
  delta FX92_begin_73 BX92_begin_73
  refine gs_c n_a0 ?_
  have f0 := (tN_302 T.1 n_a0)
  refine gs_c f0 ?_
  refine gs_fi (fun c1_0 => ?_) (fun c1_0 => ?_)
  · exact And.intro rfl (And.intro (And.intro T.1 T.2) ((ext_r _)))
  · refine gs_c n_a0 ?_
    refine gs_c n_a0 ?_
    have f2 := (tN_302 T.1 n_a0)
    refine gs_c f2 ?_
    have f5 := (tN_415 T.1 (tN_302 T.1 n_a0))
    refine gs_c ⟨f5, (h.2 c1_0).1⟩ ?_
    have f3 := (tN_298 T.1 n_a0)
    refine gs_c f3 ?_
    refine gs_b (gX93_put _ _ _ _ (h.2 c1_0).2.1) (fun K4 => ?_)
    exact And.intro rfl (And.intro (And.intro K4.1.1 K4.1.2) K4.2)
noncomputable def GX92_begin_2 (a0 : Nat) (a1 : Int32) (M : FM) : (Nat × Int32 × FM) ⊕ (Nat × Int32 × FM) ⊕ (Nat × Int32 × FM) ⊕ (Int32 × FM) :=
  fi ((M.1 297 a0 0) ≤ a1) (
    (.inr (.inl (a0, (Int32.ofInt 0), M)))) (
    let x1 : Nat := (M.2.2 303 a0 0)
    let x2 : Nat := (M.2.2 3 x1 a1.toNatClampNeg)
    let M3 : FM := GX98_reset x2 (M.2.1 313 a0 0) M
    let x4 : Nat := (M3.2.2 304 a0 0)
    let x5 : Nat := (M3.2.2 3 x4 a1.toNatClampNeg)
    let M6 : FM := GX99_reset x5 M3
    let x7 : Nat := (M6.2.2 305 a0 0)
    let x8 : Nat := (M6.2.2 3 x7 a1.toNatClampNeg)
    let M9 : FM := GX100_reset x8 M6
    let x10 : Nat := (M9.2.2 306 a0 0)
    let x11 : Nat := (M9.2.2 3 x10 a1.toNatClampNeg)
    let M12 : FM := GX101_reset x11 M9
    let x13 : Nat := (M12.2.2 298 a0 0)
    let M14 : FM := GX93_drop x13 a1 M12
    let x15 : Nat := (M14.2.2 307 a0 0)
    let M16 : FM := fm_sI M14 3 x15 a1.toNatClampNeg ((Int32.ofInt 0) &&& 1)
    let x17 : Int32 := a1 + (Int32.ofInt 1)
    (.inl (a0, x17, M16)))
def HX92_begin_2 (a0 : Nat) (a1 : Int32) (M : FM) : Prop := (((M.1 297 a0 0) ≤ a1 → True) ∧ (¬ ((M.1 297 a0 0) ≤ a1) → let x1 : Nat := (M.2.2 303 a0 0); (fm_in M x1 a1 = true ∧ let x2 : Nat := (M.2.2 3 x1 a1.toNatClampNeg); (fm_is M 94 94 x2 = true ∧ (HX98_reset x2 (M.2.1 313 a0 0) M ∧ let M3 : FM := GX98_reset x2 (M.2.1 313 a0 0) M; let x4 : Nat := (M3.2.2 304 a0 0); (fm_in M3 x4 a1 = true ∧ let x5 : Nat := (M3.2.2 3 x4 a1.toNatClampNeg); (fm_is M3 96 96 x5 = true ∧ (HX99_reset x5 M3 ∧ let M6 : FM := GX99_reset x5 M3; let x7 : Nat := (M6.2.2 305 a0 0); (fm_in M6 x7 a1 = true ∧ let x8 : Nat := (M6.2.2 3 x7 a1.toNatClampNeg); (fm_is M6 95 95 x8 = true ∧ (HX100_reset x8 M6 ∧ let M9 : FM := GX100_reset x8 M6; let x10 : Nat := (M9.2.2 306 a0 0); (fm_in M9 x10 a1 = true ∧ let x11 : Nat := (M9.2.2 3 x10 a1.toNatClampNeg); (fm_is M9 101 101 x11 = true ∧ (HX101_reset x11 M9 ∧ let M12 : FM := GX101_reset x11 M9; let x13 : Nat := (M12.2.2 298 a0 0); (HX93_drop x13 a1 M12 ∧ let M14 : FM := GX93_drop x13 a1 M12; let x15 : Nat := (M14.2.2 307 a0 0); (fm_in M14 x15 a1 = true ∧ True))))))))))))))))
theorem gX92_begin_2 (k2 : Nat → Int32 → FM → Option (Int32 × FM)) (k73 : Nat → Int32 → FM → Option (Int32 × FM)) (k114 : Nat → Int32 → FM → Option (Int32 × FM)) (a0 : Nat) (a1 : Int32) (M : FM) (T : Ty M) (n_a0 : fm_is M 92 92 a0 = true) (h : HX92_begin_2 a0 a1 M) : gs (FX92_begin_2 fN k2 k73 k114 a0 a1 M) (GX92_begin_2 a0 a1 M) (kX92_begin k2 k73 k114) (pX92_begin M) := by
  delta FX92_begin_2 BX92_begin_2
  refine gs_c n_a0 ?_
  refine gs_fi (fun c0_0 => ?_) (fun c0_0 => ?_)
  · exact And.intro rfl (And.intro (And.intro T.1 T.2) ((ext_r _)))
  · refine gs_c n_a0 ?_
    have f17 := (fm_w (lo' := 910) (hi' := 990) rfl rfl (tN_303 T.1 n_a0))
    refine gs_c ⟨f17, (h.2 c0_0).1⟩ ?_
    refine gs_c n_a0 ?_
    refine gs_c (h.2 c0_0).2.1 ?_
    refine gs_b (gX98_reset _ _ _ (h.2 c0_0).2.2.1) (fun K1 => ?_)
    have f2 := (ext_is K1.2 (Nat.zero_lt_succ _) n_a0)
    refine gs_c f2 ?_
    have f16 := (fm_w (lo' := 910) (hi' := 990) rfl rfl (tN_304 K1.1.1 (ext_is K1.2 (Nat.zero_lt_succ _) n_a0)))
    refine gs_c ⟨f16, (h.2 c0_0).2.2.2.1⟩ ?_
    refine gs_c (h.2 c0_0).2.2.2.2.1 ?_
    refine gs_b (gX99_reset _ _ (h.2 c0_0).2.2.2.2.2.1) (fun K3 => ?_)
    have f4 := (ext_is K3.2 (Nat.zero_lt_succ _) (ext_is K1.2 (Nat.zero_lt_succ _) n_a0))
    refine gs_c f4 ?_
    have f15 := (fm_w (lo' := 910) (hi' := 990) rfl rfl (tN_305 K3.1.1 (ext_is K3.2 (Nat.zero_lt_succ _) (ext_is K1.2 (Nat.zero_lt_succ _) n_a0))))
    refine gs_c ⟨f15, (h.2 c0_0).2.2.2.2.2.2.1⟩ ?_
    refine gs_c (h.2 c0_0).2.2.2.2.2.2.2.1 ?_
    refine gs_b (gX100_reset _ _ (h.2 c0_0).2.2.2.2.2.2.2.2.1) (fun K5 => ?_)
    have f6 := (ext_is K5.2 (Nat.zero_lt_succ _) (ext_is K3.2 (Nat.zero_lt_succ _) (ext_is K1.2 (Nat.zero_lt_succ _) n_a0)))
    refine gs_c f6 ?_
    have f14 := (fm_w (lo' := 910) (hi' := 990) rfl rfl (tN_306 K5.1.1 (ext_is K5.2 (Nat.zero_lt_succ _) (ext_is K3.2 (Nat.zero_lt_succ _) (ext_is K1.2 (Nat.zero_lt_succ _) n_a0)))))
    refine gs_c ⟨f14, (h.2 c0_0).2.2.2.2.2.2.2.2.2.1⟩ ?_
    refine gs_c (h.2 c0_0).2.2.2.2.2.2.2.2.2.2.1 ?_
    refine gs_b (gX101_reset _ _ (h.2 c0_0).2.2.2.2.2.2.2.2.2.2.2.1) (fun K7 => ?_)
    have f8 := (ext_is K7.2 (Nat.zero_lt_succ _) (ext_is K5.2 (Nat.zero_lt_succ _) (ext_is K3.2 (Nat.zero_lt_succ _) (ext_is K1.2 (Nat.zero_lt_succ _) n_a0))))
    refine gs_c f8 ?_
    have f9 := (tN_298 K7.1.1 (ext_is K7.2 (Nat.zero_lt_succ _) (ext_is K5.2 (Nat.zero_lt_succ _) (ext_is K3.2 (Nat.zero_lt_succ _) (ext_is K1.2 (Nat.zero_lt_succ _) n_a0)))))
    refine gs_c f9 ?_
    have f13 := (tN_298 K7.1.1 (ext_is K7.2 (Nat.zero_lt_succ _) (ext_is K5.2 (Nat.zero_lt_succ _) (ext_is K3.2 (Nat.zero_lt_succ _) (ext_is K1.2 (Nat.zero_lt_succ _) n_a0)))))
    refine gs_b (gX93_drop _ _ _ ⟨K7.1.1, K7.1.2⟩ f13 (h.2 c0_0).2.2.2.2.2.2.2.2.2.2.2.2.1) (fun K10 => ?_)
    have f11 := (ext_is K10.2 (Nat.zero_lt_succ _) (ext_is K7.2 (Nat.zero_lt_succ _) (ext_is K5.2 (Nat.zero_lt_succ _) (ext_is K3.2 (Nat.zero_lt_succ _) (ext_is K1.2 (Nat.zero_lt_succ _) n_a0)))))
    refine gs_c f11 ?_
    have f12 := (tN_307 K10.1.1 (ext_is K10.2 (Nat.zero_lt_succ _) (ext_is K7.2 (Nat.zero_lt_succ _) (ext_is K5.2 (Nat.zero_lt_succ _) (ext_is K3.2 (Nat.zero_lt_succ _) (ext_is K1.2 (Nat.zero_lt_succ _) n_a0))))))
    refine gs_c ⟨f12, (h.2 c0_0).2.2.2.2.2.2.2.2.2.2.2.2.2.1⟩ ?_
    exact And.intro rfl (And.intro (And.intro K10.1.1 (tyb_s4 K10.1.2)) ((ext_tr K1.2 (ext_tr K3.2 (ext_tr K5.2 (ext_tr K7.2 (ext_tr K10.2 (ext_dI (ext_r _)))))))))
noncomputable def GX92_begin (a0 : Nat) (M : FM) : Int32 × FM := (FX92_begin fN a0 M).getD (0, M)
def HX92_begin (a0 : Nat) (M : FM) : Prop := ∃ r, FX92_begin fN a0 M = some r ∧ OkR M r
theorem gX92_begin (a0 : Nat) (M : FM) (h : HX92_begin a0 M) : gd (FX92_begin fN a0 M) (GX92_begin a0 M) (OkR M) := gd_op h
noncomputable def GX1_start_0 (a0 : Nat) (M : FM) : Int32 × FM :=
  let x1 : Nat := (M.2.2 17 a0 0)
  let r2 : Int32 × FM := GX2_start x1 M
  (r2.1, r2.2)
def HX1_start_0 (a0 : Nat) (M : FM) : Prop := let x1 : Nat := (M.2.2 17 a0 0); (HX2_start x1 M ∧ True)
theorem gX1_start_0 (a0 : Nat) (M : FM) (T : Ty M) (n_a0 : fm_is M 10 10 a0 = true) (h : HX1_start_0 a0 M) : gd (FX1_start_0 fN a0 M) (GX1_start_0 a0 M) (OkR M) := by
  delta FX1_start_0 BX1_start_0
  refine gd_c n_a0 ?_
  have f0 := (tN_17 T.1 n_a0)
  refine gd_c f0 ?_
  refine gd_b (gX2_start _ _ h.1) (fun K1 => ?_)
  exact ⟨rfl, ⟨K1.1.1, K1.1.2⟩, K1.2⟩
noncomputable def GX1_start (a0 : Nat) (M : FM) : Int32 × FM := GX1_start_0 a0 M
def HX1_start (a0 : Nat) (M : FM) : Prop := HX1_start_0 a0 M
theorem gX1_start (a0 : Nat) (M : FM) (T : Ty M) (n_a0 : fm_is M 10 10 a0 = true) (h : HX1_start a0 M) : gd (FX1_start fN a0 M) (GX1_start a0 M) (OkR M) := gX1_start_0 a0 M T n_a0 h
noncomputable def GX1_code_0 (a0 : Nat) (M : FM) : Int32 × FM :=
  let x1 : Nat := (M.2.2 17 a0 0)
  let x2 : Nat := (M.2.2 189 x1 0)
  ((M.1 23 x2 0), M)
theorem gX1_code_0 (a0 : Nat) (M : FM) (T : Ty M) (n_a0 : fm_is M 10 10 a0 = true) : gd (FX1_code_0 a0 M) (GX1_code_0 a0 M) (OkR M) := by
  delta FX1_code_0 BX1_code_0
  refine gd_c n_a0 ?_
  have f0 := (tN_17 T.1 n_a0)
  refine gd_c f0 ?_
  have f1 := (tN_189 T.1 (tN_17 T.1 n_a0))
  refine gd_c f1 ?_
  exact ⟨rfl, ⟨T.1, T.2⟩, (ext_r _)⟩
noncomputable def GX1_code (a0 : Nat) (M : FM) : Int32 × FM := GX1_code_0 a0 M
theorem gX1_code (a0 : Nat) (M : FM) (T : Ty M) (n_a0 : fm_is M 10 10 a0 = true) : gd (FX1_code a0 M) (GX1_code a0 M) (OkR M) := gX1_code_0 a0 M T n_a0 
noncomputable def GX1_processors_0 (a0 : Nat) (M : FM) : Int32 × FM :=
  let x1 : Nat := (M.2.2 17 a0 0)
  let x2 : Nat := (M.2.2 190 x1 0)
  ((Int32.ofNat (M.2.2 1 x2 0)), M)
theorem gX1_processors_0 (a0 : Nat) (M : FM) (T : Ty M) (n_a0 : fm_is M 10 10 a0 = true) : gd (FX1_processors_0 a0 M) (GX1_processors_0 a0 M) (OkR M) := by
  delta FX1_processors_0 BX1_processors_0
  refine gd_c n_a0 ?_
  have f0 := (tN_17 T.1 n_a0)
  refine gd_c f0 ?_
  have f1 := (fm_w (lo' := 901) (hi' := 990) rfl rfl (tN_190 T.1 (tN_17 T.1 n_a0)))
  refine gd_c f1 ?_
  exact ⟨rfl, ⟨T.1, T.2⟩, (ext_r _)⟩
noncomputable def GX1_processors (a0 : Nat) (M : FM) : Int32 × FM := GX1_processors_0 a0 M
theorem gX1_processors (a0 : Nat) (M : FM) (T : Ty M) (n_a0 : fm_is M 10 10 a0 = true) : gd (FX1_processors a0 M) (GX1_processors a0 M) (OkR M) := gX1_processors_0 a0 M T n_a0 
noncomputable def GX1_sent_0 (a0 : Nat) (M : FM) : Int64 × FM :=
  let x1 : Nat := (M.2.2 17 a0 0)
  let x2 : Nat := (M.2.2 189 x1 0)
  let x3 : Nat := (M.2.2 19 x2 0)
  let x4 : Nat := (M.2.2 242 x3 0)
  ((M.2.1 234 x4 0), M)
theorem gX1_sent_0 (a0 : Nat) (M : FM) (T : Ty M) (n_a0 : fm_is M 10 10 a0 = true) : gd (FX1_sent_0 a0 M) (GX1_sent_0 a0 M) (OkR M) := by
  delta FX1_sent_0 BX1_sent_0
  refine gd_c n_a0 ?_
  have f0 := (tN_17 T.1 n_a0)
  refine gd_c f0 ?_
  have f1 := (tN_189 T.1 (tN_17 T.1 n_a0))
  refine gd_c f1 ?_
  have f2 := (tN_19 T.1 (tN_189 T.1 (tN_17 T.1 n_a0)))
  refine gd_c f2 ?_
  have f3 := (tN_242 T.1 (tN_19 T.1 (tN_189 T.1 (tN_17 T.1 n_a0))))
  refine gd_c f3 ?_
  exact ⟨rfl, ⟨T.1, T.2⟩, (ext_r _)⟩
noncomputable def GX1_sent (a0 : Nat) (M : FM) : Int64 × FM := GX1_sent_0 a0 M
theorem gX1_sent (a0 : Nat) (M : FM) (T : Ty M) (n_a0 : fm_is M 10 10 a0 = true) : gd (FX1_sent a0 M) (GX1_sent a0 M) (OkR M) := gX1_sent_0 a0 M T n_a0 
noncomputable def GX1_waiting_0 (a0 : Nat) (M : FM) : Int32 × FM :=
  let x1 : Nat := (M.2.2 17 a0 0)
  ((M.1 196 x1 0), M)
theorem gX1_waiting_0 (a0 : Nat) (M : FM) (T : Ty M) (n_a0 : fm_is M 10 10 a0 = true) : gd (FX1_waiting_0 a0 M) (GX1_waiting_0 a0 M) (OkR M) := by
  delta FX1_waiting_0 BX1_waiting_0
  refine gd_c n_a0 ?_
  have f0 := (tN_17 T.1 n_a0)
  refine gd_c f0 ?_
  exact ⟨rfl, ⟨T.1, T.2⟩, (ext_r _)⟩
noncomputable def GX1_waiting (a0 : Nat) (M : FM) : Int32 × FM := GX1_waiting_0 a0 M
theorem gX1_waiting (a0 : Nat) (M : FM) (T : Ty M) (n_a0 : fm_is M 10 10 a0 = true) : gd (FX1_waiting a0 M) (GX1_waiting a0 M) (OkR M) := gX1_waiting_0 a0 M T n_a0 
noncomputable def GX1_changed_0 (a0 : Nat) (M : FM) : Int32 × FM :=
  let x1 : Nat := (M.2.2 17 a0 0)
  let x2 : Nat := (M.2.2 189 x1 0)
  let x3 : Nat := (M.2.2 20 x2 0)
  let x4 : Nat := (M.2.2 59 x3 0)
  ((M.1 70 x4 0), M)
theorem gX1_changed_0 (a0 : Nat) (M : FM) (T : Ty M) (n_a0 : fm_is M 10 10 a0 = true) : gd (FX1_changed_0 a0 M) (GX1_changed_0 a0 M) (OkR M) := by
  delta FX1_changed_0 BX1_changed_0
  refine gd_c n_a0 ?_
  have f0 := (tN_17 T.1 n_a0)
  refine gd_c f0 ?_
  have f1 := (tN_189 T.1 (tN_17 T.1 n_a0))
  refine gd_c f1 ?_
  have f2 := (tN_20 T.1 (tN_189 T.1 (tN_17 T.1 n_a0)))
  refine gd_c f2 ?_
  have f3 := (tN_59 T.1 (tN_20 T.1 (tN_189 T.1 (tN_17 T.1 n_a0))))
  refine gd_c f3 ?_
  exact ⟨rfl, ⟨T.1, T.2⟩, (ext_r _)⟩
noncomputable def GX1_changed (a0 : Nat) (M : FM) : Int32 × FM := GX1_changed_0 a0 M
theorem gX1_changed (a0 : Nat) (M : FM) (T : Ty M) (n_a0 : fm_is M 10 10 a0 = true) : gd (FX1_changed a0 M) (GX1_changed a0 M) (OkR M) := gX1_changed_0 a0 M T n_a0 
noncomputable def GX10_time_0 (a0 : Nat) (M : FM) : Int64 × FM :=
  let x1 : Nat := (M.2.2 19 a0 0)
  let x2 : Nat := (M.2.2 240 x1 0)
  let x3 : Nat := (M.2.2 246 x2 0)
  ((M.2.1 3 x3 (Int32.ofInt 4).toNatClampNeg), M)
theorem gX10_time_0 (a0 : Nat) (M : FM) (T : Ty M) (n_a0 : fm_is M 11 11 a0 = true) : gd (FX10_time_0 a0 M) (GX10_time_0 a0 M) (OkR M) := by
  delta FX10_time_0 BX10_time_0
  refine gd_c n_a0 ?_
  have f0 := (tN_19 T.1 n_a0)
  refine gd_c f0 ?_
  have f1 := (tN_240 T.1 (tN_19 T.1 n_a0))
  refine gd_c f1 ?_
  have f2 := (tN_246 T.1 (tN_240 T.1 (tN_19 T.1 n_a0)))
  have f3 := (fm_inl (i := (Int32.ofInt 4)) (tL_246 T.1 (tN_240 T.1 (tN_19 T.1 n_a0))) (by decide))
  refine gd_c ⟨f2, f3⟩ ?_
  exact ⟨rfl, ⟨T.1, T.2⟩, (ext_r _)⟩
noncomputable def GX10_time (a0 : Nat) (M : FM) : Int64 × FM := GX10_time_0 a0 M
theorem gX10_time (a0 : Nat) (M : FM) (T : Ty M) (n_a0 : fm_is M 11 11 a0 = true) : gd (FX10_time a0 M) (GX10_time a0 M) (OkR M) := gX10_time_0 a0 M T n_a0 
noncomputable def GX1_time_0 (a0 : Nat) (M : FM) : Int64 × FM :=
  let x1 : Nat := (M.2.2 17 a0 0)
  let x2 : Nat := (M.2.2 189 x1 0)
  let r3 : Int64 × FM := GX10_time x2 M
  (r3.1, r3.2)
theorem gX1_time_0 (a0 : Nat) (M : FM) (T : Ty M) (n_a0 : fm_is M 10 10 a0 = true) : gd (FX1_time_0 a0 M) (GX1_time_0 a0 M) (OkR M) := by
  delta FX1_time_0 BX1_time_0
  refine gd_c n_a0 ?_
  have f0 := (tN_17 T.1 n_a0)
  refine gd_c f0 ?_
  have f1 := (tN_189 T.1 (tN_17 T.1 n_a0))
  refine gd_c f1 ?_
  have f3 := (tN_189 T.1 (tN_17 T.1 n_a0))
  refine gd_b (gX10_time _ _ ⟨T.1, T.2⟩ f3 ) (fun K2 => ?_)
  exact ⟨rfl, ⟨K2.1.1, K2.1.2⟩, K2.2⟩
noncomputable def GX1_time (a0 : Nat) (M : FM) : Int64 × FM := GX1_time_0 a0 M
theorem gX1_time (a0 : Nat) (M : FM) (T : Ty M) (n_a0 : fm_is M 10 10 a0 = true) : gd (FX1_time a0 M) (GX1_time a0 M) (OkR M) := gX1_time_0 a0 M T n_a0 
noncomputable def GX1_breaches_0 (a0 : Nat) (M : FM) : Int64 × FM :=
  ((Int64.ofInt 0), M)
theorem gX1_breaches_0 (a0 : Nat) (M : FM) (T : Ty M) : gd (FX1_breaches_0 a0 M) (GX1_breaches_0 a0 M) (OkR M) := by
  delta FX1_breaches_0 BX1_breaches_0
  exact ⟨rfl, ⟨T.1, T.2⟩, (ext_r _)⟩
noncomputable def GX1_breaches (a0 : Nat) (M : FM) : Int64 × FM := GX1_breaches_0 a0 M
theorem gX1_breaches (a0 : Nat) (M : FM) (T : Ty M) : gd (FX1_breaches a0 M) (GX1_breaches a0 M) (OkR M) := gX1_breaches_0 a0 M T 
noncomputable def GX92_start_0 (a0 : Nat) (M : FM) : Int32 × FM :=
  let M1 : FM := fm_sI M 296 a0 0 (Int32.ofInt 0)
  let r2 : Int32 × FM := GX92_begin a0 M1
  (r2.1, r2.2)
def HX92_start_0 (a0 : Nat) (M : FM) : Prop := let M1 : FM := fm_sI M 296 a0 0 (Int32.ofInt 0); (HX92_begin a0 M1 ∧ True)
theorem gX92_start_0 (a0 : Nat) (M : FM) (T : Ty M) (n_a0 : fm_is M 92 92 a0 = true) (h : HX92_start_0 a0 M) : gd (FX92_start_0 fN a0 M) (GX92_start_0 a0 M) (OkR M) := by
  delta FX92_start_0 BX92_start_0
  refine gd_c n_a0 ?_
  refine gd_c n_a0 ?_
  refine gd_b (gX92_begin _ _ h.1) (fun K0 => ?_)
  exact ⟨rfl, ⟨K0.1.1, K0.1.2⟩, (ext_dI K0.2)⟩
noncomputable def GX92_start (a0 : Nat) (M : FM) : Int32 × FM := GX92_start_0 a0 M
def HX92_start (a0 : Nat) (M : FM) : Prop := HX92_start_0 a0 M
theorem gX92_start (a0 : Nat) (M : FM) (T : Ty M) (n_a0 : fm_is M 92 92 a0 = true) (h : HX92_start a0 M) : gd (FX92_start fN a0 M) (GX92_start a0 M) (OkR M) := gX92_start_0 a0 M T n_a0 h
noncomputable def GX92_code_0 (a0 : Nat) (M : FM) : Int32 × FM :=
  let M1 : FM := fm_sI M 296 a0 0 (Int32.ofInt 0)
  ((M1.1 315 a0 0), M1)
theorem gX92_code_0 (a0 : Nat) (M : FM) (T : Ty M) (n_a0 : fm_is M 92 92 a0 = true) : gd (FX92_code_0 a0 M) (GX92_code_0 a0 M) (OkR M) := by
  delta FX92_code_0 BX92_code_0
  refine gd_c n_a0 ?_
  refine gd_c n_a0 ?_
  exact ⟨rfl, ⟨T.1, (tyb_sI (f := 296) rfl T.2)⟩, (ext_dI (ext_r _))⟩
noncomputable def GX92_code (a0 : Nat) (M : FM) : Int32 × FM := GX92_code_0 a0 M
theorem gX92_code (a0 : Nat) (M : FM) (T : Ty M) (n_a0 : fm_is M 92 92 a0 = true) : gd (FX92_code a0 M) (GX92_code a0 M) (OkR M) := gX92_code_0 a0 M T n_a0 
noncomputable def GX92_processors_0 (a0 : Nat) (M : FM) : Int32 × FM :=
  let M1 : FM := fm_sI M 296 a0 0 (Int32.ofInt 0)
  ((M1.1 297 a0 0), M1)
theorem gX92_processors_0 (a0 : Nat) (M : FM) (T : Ty M) (n_a0 : fm_is M 92 92 a0 = true) : gd (FX92_processors_0 a0 M) (GX92_processors_0 a0 M) (OkR M) := by
  delta FX92_processors_0 BX92_processors_0
  refine gd_c n_a0 ?_
  refine gd_c n_a0 ?_
  exact ⟨rfl, ⟨T.1, (tyb_sI (f := 296) rfl T.2)⟩, (ext_dI (ext_r _))⟩
noncomputable def GX92_processors (a0 : Nat) (M : FM) : Int32 × FM := GX92_processors_0 a0 M
theorem gX92_processors (a0 : Nat) (M : FM) (T : Ty M) (n_a0 : fm_is M 92 92 a0 = true) : gd (FX92_processors a0 M) (GX92_processors a0 M) (OkR M) := gX92_processors_0 a0 M T n_a0 
noncomputable def GX96_sent_0 (a0 : Nat) (M : FM) : Int64 × FM :=
  let M1 : FM := fm_sI M 394 a0 0 (Int32.ofInt 0)
  ((M1.2.1 413 a0 0), M1)
theorem gX96_sent_0 (a0 : Nat) (M : FM) (T : Ty M) (n_a0 : fm_is M 99 99 a0 = true) : gd (FX96_sent_0 a0 M) (GX96_sent_0 a0 M) (OkR M) := by
  delta FX96_sent_0 BX96_sent_0
  refine gd_c n_a0 ?_
  refine gd_c n_a0 ?_
  exact ⟨rfl, ⟨T.1, (tyb_sI (f := 394) rfl T.2)⟩, (ext_dI (ext_r _))⟩
noncomputable def GX96_sent (a0 : Nat) (M : FM) : Int64 × FM := GX96_sent_0 a0 M
theorem gX96_sent (a0 : Nat) (M : FM) (T : Ty M) (n_a0 : fm_is M 99 99 a0 = true) : gd (FX96_sent a0 M) (GX96_sent a0 M) (OkR M) := gX96_sent_0 a0 M T n_a0 
noncomputable def GX92_sent_0 (a0 : Nat) (M : FM) : Int64 × FM :=
  let M1 : FM := fm_sI M 296 a0 0 (Int32.ofInt 0)
  let x2 : Nat := (M1.2.2 301 a0 0)
  let r3 : Int64 × FM := GX96_sent x2 M1
  (r3.1, r3.2)
theorem gX92_sent_0 (a0 : Nat) (M : FM) (T : Ty M) (n_a0 : fm_is M 92 92 a0 = true) : gd (FX92_sent_0 a0 M) (GX92_sent_0 a0 M) (OkR M) := by
  delta FX92_sent_0 BX92_sent_0
  refine gd_c n_a0 ?_
  refine gd_c n_a0 ?_
  have f0 := (tN_301 T.1 n_a0)
  refine gd_c f0 ?_
  have f2 := (tN_301 T.1 n_a0)
  refine gd_b (gX96_sent _ _ ⟨T.1, (tyb_sI (f := 296) rfl T.2)⟩ f2 ) (fun K1 => ?_)
  exact ⟨rfl, ⟨K1.1.1, K1.1.2⟩, (ext_dI K1.2)⟩
noncomputable def GX92_sent (a0 : Nat) (M : FM) : Int64 × FM := GX92_sent_0 a0 M
theorem gX92_sent (a0 : Nat) (M : FM) (T : Ty M) (n_a0 : fm_is M 92 92 a0 = true) : gd (FX92_sent a0 M) (GX92_sent a0 M) (OkR M) := gX92_sent_0 a0 M T n_a0 
noncomputable def GX92_waiting_0 (a0 : Nat) (M : FM) : Int32 × FM :=
  let M1 : FM := fm_sI M 296 a0 0 (Int32.ofInt 0)
  ((M1.1 312 a0 0), M1)
theorem gX92_waiting_0 (a0 : Nat) (M : FM) (T : Ty M) (n_a0 : fm_is M 92 92 a0 = true) : gd (FX92_waiting_0 a0 M) (GX92_waiting_0 a0 M) (OkR M) := by
  delta FX92_waiting_0 BX92_waiting_0
  refine gd_c n_a0 ?_
  refine gd_c n_a0 ?_
  exact ⟨rfl, ⟨T.1, (tyb_sI (f := 296) rfl T.2)⟩, (ext_dI (ext_r _))⟩
noncomputable def GX92_waiting (a0 : Nat) (M : FM) : Int32 × FM := GX92_waiting_0 a0 M
theorem gX92_waiting (a0 : Nat) (M : FM) (T : Ty M) (n_a0 : fm_is M 92 92 a0 = true) : gd (FX92_waiting a0 M) (GX92_waiting a0 M) (OkR M) := gX92_waiting_0 a0 M T n_a0 
noncomputable def GX95_changed_0 (a0 : Nat) (M : FM) : Int32 × FM :=
  let M1 : FM := fm_sI M 324 a0 0 (Int32.ofInt 0)
  ((M1.1 338 a0 0), M1)
theorem gX95_changed_0 (a0 : Nat) (M : FM) (T : Ty M) (n_a0 : fm_is M 93 93 a0 = true) : gd (FX95_changed_0 a0 M) (GX95_changed_0 a0 M) (OkR M) := by
  delta FX95_changed_0 BX95_changed_0
  refine gd_c n_a0 ?_
  refine gd_c n_a0 ?_
  exact ⟨rfl, ⟨T.1, (tyb_sI (f := 324) rfl T.2)⟩, (ext_dI (ext_r _))⟩
noncomputable def GX95_changed (a0 : Nat) (M : FM) : Int32 × FM := GX95_changed_0 a0 M
theorem gX95_changed (a0 : Nat) (M : FM) (T : Ty M) (n_a0 : fm_is M 93 93 a0 = true) : gd (FX95_changed a0 M) (GX95_changed a0 M) (OkR M) := gX95_changed_0 a0 M T n_a0 
noncomputable def GX92_changed_0 (a0 : Nat) (M : FM) : Int32 × FM :=
  let M1 : FM := fm_sI M 296 a0 0 (Int32.ofInt 0)
  let x2 : Nat := (M1.2.2 300 a0 0)
  let r3 : Int32 × FM := GX95_changed x2 M1
  (r3.1, r3.2)
theorem gX92_changed_0 (a0 : Nat) (M : FM) (T : Ty M) (n_a0 : fm_is M 92 92 a0 = true) : gd (FX92_changed_0 a0 M) (GX92_changed_0 a0 M) (OkR M) := by
  delta FX92_changed_0 BX92_changed_0
  refine gd_c n_a0 ?_
  refine gd_c n_a0 ?_
  have f0 := (tN_300 T.1 n_a0)
  refine gd_c f0 ?_
  have f2 := (tN_300 T.1 n_a0)
  refine gd_b (gX95_changed _ _ ⟨T.1, (tyb_sI (f := 296) rfl T.2)⟩ f2 ) (fun K1 => ?_)
  exact ⟨rfl, ⟨K1.1.1, K1.1.2⟩, (ext_dI K1.2)⟩
noncomputable def GX92_changed (a0 : Nat) (M : FM) : Int32 × FM := GX92_changed_0 a0 M
theorem gX92_changed (a0 : Nat) (M : FM) (T : Ty M) (n_a0 : fm_is M 92 92 a0 = true) : gd (FX92_changed a0 M) (GX92_changed a0 M) (OkR M) := gX92_changed_0 a0 M T n_a0 
noncomputable def GX92_time_0 (a0 : Nat) (M : FM) : Int64 × FM :=
  let M1 : FM := fm_sI M 296 a0 0 (Int32.ofInt 0)
  let x2 : Nat := (M1.2.2 301 a0 0)
  ((M1.2.1 398 x2 0), M1)
theorem gX92_time_0 (a0 : Nat) (M : FM) (T : Ty M) (n_a0 : fm_is M 92 92 a0 = true) : gd (FX92_time_0 a0 M) (GX92_time_0 a0 M) (OkR M) := by
  delta FX92_time_0 BX92_time_0
  refine gd_c n_a0 ?_
  refine gd_c n_a0 ?_
  have f0 := (tN_301 T.1 n_a0)
  refine gd_c f0 ?_
  exact ⟨rfl, ⟨T.1, (tyb_sI (f := 296) rfl T.2)⟩, (ext_dI (ext_r _))⟩
noncomputable def GX92_time (a0 : Nat) (M : FM) : Int64 × FM := GX92_time_0 a0 M
theorem gX92_time (a0 : Nat) (M : FM) (T : Ty M) (n_a0 : fm_is M 92 92 a0 = true) : gd (FX92_time a0 M) (GX92_time a0 M) (OkR M) := gX92_time_0 a0 M T n_a0 
noncomputable def GX92_breaches_0 (a0 : Nat) (M : FM) : Int64 × FM :=
  let M1 : FM := fm_sI M 296 a0 0 (Int32.ofInt 0)
  let x2 : Nat := (M1.2.2 298 a0 0)
  let x3 : Nat := (M1.2.2 301 a0 0)
  ((((M1.2.1 316 a0 0) + (M1.2.1 393 x2 0)) + (M1.2.1 414 x3 0)), M1)
theorem gX92_breaches_0 (a0 : Nat) (M : FM) (T : Ty M) (n_a0 : fm_is M 92 92 a0 = true) : gd (FX92_breaches_0 a0 M) (GX92_breaches_0 a0 M) (OkR M) := by
  delta FX92_breaches_0 BX92_breaches_0
  refine gd_c n_a0 ?_
  refine gd_c n_a0 ?_
  refine gd_c n_a0 ?_
  have f0 := (tN_298 T.1 n_a0)
  refine gd_c f0 ?_
  refine gd_c n_a0 ?_
  have f1 := (tN_301 T.1 n_a0)
  refine gd_c f1 ?_
  exact ⟨rfl, ⟨T.1, (tyb_sI (f := 296) rfl T.2)⟩, (ext_dI (ext_r _))⟩
noncomputable def GX92_breaches (a0 : Nat) (M : FM) : Int64 × FM := GX92_breaches_0 a0 M
theorem gX92_breaches (a0 : Nat) (M : FM) (T : Ty M) (n_a0 : fm_is M 92 92 a0 = true) : gd (FX92_breaches a0 M) (GX92_breaches a0 M) (OkR M) := gX92_breaches_0 a0 M T n_a0 
noncomputable def GX1_proper_0 (a0 : Int32) (M : FM) : FM :=
  fi (a0 = 0) (
    M) (
    M)
def HX1_proper_0 (a0 : Int32) (M : FM) : Prop := ((a0 = 0 → False) ∧ (¬ (a0 = 0) → True))
theorem gX1_proper_0 (a0 : Int32) (M : FM) (T : Ty M) (h : HX1_proper_0 a0 M) : gd (FX1_proper_0 a0 M) (GX1_proper_0 a0 M) (OkV M) := by
  delta FX1_proper_0 BX1_proper_0
  refine gd_fi (fun c0_0 => ?_) (fun c0_0 => ?_)
  · exact h_false (h.1 c0_0)
  · exact ⟨rfl, ⟨T.1, T.2⟩, (ext_r _)⟩
noncomputable def GX1_proper (a0 : Int32) (M : FM) : FM := GX1_proper_0 a0 M
def HX1_proper (a0 : Int32) (M : FM) : Prop := HX1_proper_0 a0 M
theorem gX1_proper (a0 : Int32) (M : FM) (T : Ty M) (h : HX1_proper a0 M) : gd (FX1_proper a0 M) (GX1_proper a0 M) (OkV M) := gX1_proper_0 a0 M T h
noncomputable def GX1_end_23 (a0 : Nat) (a1 : Int32) (s0 : Int32) (M : FM) : FM :=
  let M1 : FM := GX1_proper s0 M
  let x2 : Nat := (M1.2.2 17 a0 0)
  let x3 : Nat := (M1.2.2 191 x2 0)
  let M4 : FM := fm_sI M1 262 x3 0 a1
  M4
def HX1_end_23 (a0 : Nat) (a1 : Int32) (s0 : Int32) (M : FM) : Prop := (HX1_proper s0 M ∧ True)
theorem gX1_end_23 (a0 : Nat) (a1 : Int32) (s0 : Int32) (M : FM) (T : Ty M) (n_a0 : fm_is M 10 10 a0 = true) (h : HX1_end_23 a0 a1 s0 M) : gd (FX1_end_23 a0 a1 s0 M) (GX1_end_23 a0 a1 s0 M) (OkV M) := by
  delta FX1_end_23 BX1_end_23
  refine gd_b (gX1_proper _ _ ⟨T.1, T.2⟩  h.1) (fun K0 => ?_)
  have f1 := (ext_is K0.2 (Nat.zero_lt_succ _) n_a0)
  refine gd_c f1 ?_
  have f2 := (tN_17 K0.1.1 (ext_is K0.2 (Nat.zero_lt_succ _) n_a0))
  refine gd_c f2 ?_
  have f3 := (tN_191 K0.1.1 (tN_17 K0.1.1 (ext_is K0.2 (Nat.zero_lt_succ _) n_a0)))
  refine gd_c f3 ?_
  exact ⟨rfl, ⟨K0.1.1, (tyb_sI (f := 262) rfl K0.1.2)⟩, (ext_tr K0.2 (ext_dI (ext_r _)))⟩
noncomputable def GX1_end_22 (a0 : Nat) (a1 : Int32) (M : FM) : FM :=
  GX1_end_23 a0 a1 (Int32.ofInt 0) M
def HX1_end_22 (a0 : Nat) (a1 : Int32) (M : FM) : Prop := HX1_end_23 a0 a1 (Int32.ofInt 0) M
theorem gX1_end_22 (a0 : Nat) (a1 : Int32) (M : FM) (T : Ty M) (n_a0 : fm_is M 10 10 a0 = true) (h : HX1_end_22 a0 a1 M) : gd (FX1_end_22 a0 a1 M) (GX1_end_22 a0 a1 M) (OkV M) := by
  delta FX1_end_22 BX1_end_22
  exact gd_tV (ext_r _) (gX1_end_23 _ _ _ _ ⟨T.1, T.2⟩ n_a0 h)
noncomputable def GX1_end_0 (a0 : Nat) (a1 : Int32) (M : FM) : FM :=
  fi (a1 < 0) (
    GX1_end_22 a0 a1 M) (
    let x1 : Nat := (M.2.2 17 a0 0)
    let x2 : Nat := (M.2.2 191 x1 0)
    fi ((M.1 262 x2 0) < a1) (
      GX1_end_22 a0 a1 M) (
      GX1_end_23 a0 a1 (Int32.ofInt 1) M))
def HX1_end_0 (a0 : Nat) (a1 : Int32) (M : FM) : Prop := ((a1 < 0 → HX1_end_22 a0 a1 M) ∧ (¬ (a1 < 0) → let x1 : Nat := (M.2.2 17 a0 0); let x2 : Nat := (M.2.2 191 x1 0); (((M.1 262 x2 0) < a1 → HX1_end_22 a0 a1 M) ∧ (¬ ((M.1 262 x2 0) < a1) → HX1_end_23 a0 a1 (Int32.ofInt 1) M))))
theorem gX1_end_0 (a0 : Nat) (a1 : Int32) (M : FM) (T : Ty M) (n_a0 : fm_is M 10 10 a0 = true) (h : HX1_end_0 a0 a1 M) : gd (FX1_end_0 a0 a1 M) (GX1_end_0 a0 a1 M) (OkV M) := by
  delta FX1_end_0 BX1_end_0
  refine gd_fi (fun c0_0 => ?_) (fun c0_0 => ?_)
  · exact gd_tV (ext_r _) (gX1_end_22 _ _ _ ⟨T.1, T.2⟩ n_a0 (h.1 c0_0))
  · refine gd_c n_a0 ?_
    have f1 := (tN_17 T.1 n_a0)
    refine gd_c f1 ?_
    have f2 := (tN_191 T.1 (tN_17 T.1 n_a0))
    refine gd_c f2 ?_
    refine gd_fi (fun c3_0 => ?_) (fun c3_0 => ?_)
    · exact gd_tV (ext_r _) (gX1_end_22 _ _ _ ⟨T.1, T.2⟩ n_a0 ((h.2 c0_0).1 c3_0))
    · exact gd_tV (ext_r _) (gX1_end_23 _ _ _ _ ⟨T.1, T.2⟩ n_a0 ((h.2 c0_0).2 c3_0))
noncomputable def GX1_end (a0 : Nat) (a1 : Int32) (M : FM) : FM := GX1_end_0 a0 a1 M
def HX1_end (a0 : Nat) (a1 : Int32) (M : FM) : Prop := HX1_end_0 a0 a1 M
theorem gX1_end (a0 : Nat) (a1 : Int32) (M : FM) (T : Ty M) (n_a0 : fm_is M 10 10 a0 = true) (h : HX1_end a0 a1 M) : gd (FX1_end a0 a1 M) (GX1_end a0 a1 M) (OkV M) := gX1_end_0 a0 a1 M T n_a0 h
noncomputable def GX0_end (a0 : Nat) (a1 : Int32) (M : FM) : Int32 × FM := (Fh_law_end fN a0 a1 M).getD (0, M)
def HX0_end (a0 : Nat) (a1 : Int32) (M : FM) : Prop := ∃ r, Fh_law_end fN a0 a1 M = some r ∧ OkR M r
theorem gX0_end (a0 : Nat) (a1 : Int32) (M : FM) (h : HX0_end a0 a1 M) : gd (Fh_law_end fN a0 a1 M) (GX0_end a0 a1 M) (OkR M) := gd_op h
noncomputable def GX32_isDue_29 (s0 : Int32) (M : FM) : Int32 × FM :=
  (s0, M)
theorem gX32_isDue_29 (s0 : Int32) (M : FM) (T : Ty M) (z_s0 : s0 = 0 ∨ s0 = 1) : gd (FX32_isDue_29 s0 M) (GX32_isDue_29 s0 M) (OkZ M) := by
  delta FX32_isDue_29 BX32_isDue_29
  exact gd_z z_s0 ⟨T.1, T.2⟩ (ext_r _) rfl
noncomputable def GX32_isDue_0 (a0 : Nat) (a1 : Int32) (M : FM) : Int32 × FM :=
  let x1 : Nat := (M.2.2 246 a0 0)
  let x2 : Nat := (M.2.2 246 a0 0)
  fi ((lg_cmp ((M.2.1 3 x1 (Int32.ofInt 4).toNatClampNeg) ^^^ (Int64.ofInt (-9223372036854775808))) ((M.2.1 3 x2 a1.toNatClampNeg) ^^^ (Int64.ofInt (-9223372036854775808)))) < 0) (
    GX32_isDue_29 (Int32.ofInt 0) M) (
    GX32_isDue_29 (Int32.ofInt 1) M)
def HX32_isDue_0 (a0 : Nat) (a1 : Int32) (M : FM) : Prop := let x1 : Nat := (M.2.2 246 a0 0); let x2 : Nat := (M.2.2 246 a0 0); (fm_in M x2 a1 = true ∧ True)
theorem gX32_isDue_0 (a0 : Nat) (a1 : Int32) (M : FM) (T : Ty M) (n_a0 : fm_is M 80 80 a0 = true) (h : HX32_isDue_0 a0 a1 M) : gd (FX32_isDue_0 a0 a1 M) (GX32_isDue_0 a0 a1 M) (OkZ M) := by
  delta FX32_isDue_0 BX32_isDue_0
  refine gd_c n_a0 ?_
  have f2 := (tN_246 T.1 n_a0)
  have f3 := (fm_inl (i := (Int32.ofInt 4)) (tL_246 T.1 n_a0) (by decide))
  refine gd_c ⟨f2, f3⟩ ?_
  refine gd_c n_a0 ?_
  have f1 := (tN_246 T.1 n_a0)
  refine gd_c ⟨f1, h.1⟩ ?_
  refine gd_fi (fun c0_0 => ?_) (fun c0_0 => ?_)
  · exact gd_tZ (ext_r _) (gX32_isDue_29 _ _ ⟨T.1, T.2⟩ fz_0 )
  · exact gd_tZ (ext_r _) (gX32_isDue_29 _ _ ⟨T.1, T.2⟩ fz_1 )
noncomputable def GX32_isDue (a0 : Nat) (a1 : Int32) (M : FM) : Int32 × FM := GX32_isDue_0 a0 a1 M
def HX32_isDue (a0 : Nat) (a1 : Int32) (M : FM) : Prop := HX32_isDue_0 a0 a1 M
theorem gX32_isDue (a0 : Nat) (a1 : Int32) (M : FM) (T : Ty M) (n_a0 : fm_is M 80 80 a0 = true) (h : HX32_isDue a0 a1 M) : gd (FX32_isDue a0 a1 M) (GX32_isDue a0 a1 M) (OkZ M) := gX32_isDue_0 a0 a1 M T n_a0 h
def kX33_best (k8 : Nat → Int32 → Int32 → Int32 → Int32 → FM → Option (Int32 × FM)) : (Nat × Int32 × Int32 × Int32 × Int32 × FM) ⊕ (Int32 × FM) → Option (Int32 × FM)
  | .inl (v0, v1, v2, v3, v4, M') => k8 v0 v1 v2 v3 v4 M'
  | .inr (r) => some r
def pX33_best (M : FM) : (Nat × Int32 × Int32 × Int32 × Int32 × FM) ⊕ (Int32 × FM) → Prop
  | .inl (_, _, _, _, _, M') => OkV M M'
  | .inr (r) => OkR M r
theorem pX33_best_t {M M1 : FM} (e : Ext M M1) : ∀ y, pX33_best M1 y → pX33_best M y
  | .inl (_, _, _, _, _, _), h => ⟨h.1, ext_tr e h.2⟩
  | .inr (r), h => ⟨h.1, ext_tr e h.2⟩
noncomputable def GX33_best_49 (a0 : Nat) (a1 : Int32) (a3 : Int32) (a4 : Int32) (a5 : Int32) (M : FM) : (Nat × Int32 × Int32 × Int32 × Int32 × FM) ⊕ (Int32 × FM) :=
  let x1 : Int32 := a5 + (Int32.ofInt 1)
  (.inl (a0, a1, a3, a4, x1, M))
theorem gX33_best_49 (k8 : Nat → Int32 → Int32 → Int32 → Int32 → FM → Option (Int32 × FM)) (a0 : Nat) (a1 : Int32) (a3 : Int32) (a4 : Int32) (a5 : Int32) (M : FM) (T : Ty M) : gs (FX33_best_49 fN k8 a0 a1 a3 a4 a5 M) (GX33_best_49 a0 a1 a3 a4 a5 M) (kX33_best k8) (pX33_best M) := by
  delta FX33_best_49 BX33_best_49
  exact And.intro rfl (And.intro (And.intro T.1 T.2) ((ext_r _)))
noncomputable def GX33_best_0 (a0 : Nat) (a1 : Int32) (a2 : Int32) (M : FM) : (Nat × Int32 × Int32 × Int32 × Int32 × FM) ⊕ (Int32 × FM) :=
  (.inl (a0, a1, (Int32.ofInt 0), a2, (Int32.ofInt 1), M))
theorem gX33_best_0 (k8 : Nat → Int32 → Int32 → Int32 → Int32 → FM → Option (Int32 × FM)) (a0 : Nat) (a1 : Int32) (a2 : Int32) (M : FM) (T : Ty M) : gs (FX33_best_0 fN k8 a0 a1 a2 M) (GX33_best_0 a0 a1 a2 M) (kX33_best k8) (pX33_best M) := by
  delta FX33_best_0 BX33_best_0
  exact And.intro rfl (And.intro (And.intro T.1 T.2) ((ext_r _)))
noncomputable def GX33_best_8 (a0 : Nat) (a1 : Int32) (a3 : Int32) (a4 : Int32) (a5 : Int32) (M : FM) : (Nat × Int32 × Int32 × Int32 × Int32 × FM) ⊕ (Int32 × FM) :=
  fi ((Int32.ofInt 32) ≤ a5) (
    (.inr (a3, M))) (
    fi (((a1 >>> (a5 &&& 31)) &&& (Int32.ofInt 1)) = (Int32.ofInt 1)) (
      let x1 : Nat := (M.2.2 224 a0 0)
      fi ((M.1 3 x1 a5.toNatClampNeg) ≤ a4) (
        GX33_best_49 a0 a1 a3 a4 a5 M) (
        let x2 : Nat := (M.2.2 224 a0 0)
        let x3 : Int32 := (M.1 3 x2 a5.toNatClampNeg)
        GX33_best_49 a0 a1 a5 x3 a5 M)) (
      GX33_best_49 a0 a1 a3 a4 a5 M))
def HX33_best_8 (a0 : Nat) (a1 : Int32) (a3 : Int32) (a4 : Int32) (a5 : Int32) (M : FM) : Prop := (((Int32.ofInt 32) ≤ a5 → True) ∧ (¬ ((Int32.ofInt 32) ≤ a5) → ((((a1 >>> (a5 &&& 31)) &&& (Int32.ofInt 1)) = (Int32.ofInt 1) → let x1 : Nat := (M.2.2 224 a0 0); (fm_in M x1 a5 = true ∧ (((M.1 3 x1 a5.toNatClampNeg) ≤ a4 → True) ∧ (¬ ((M.1 3 x1 a5.toNatClampNeg) ≤ a4) → let x2 : Nat := (M.2.2 224 a0 0); (fm_in M x2 a5 = true ∧ True))))) ∧ (¬ (((a1 >>> (a5 &&& 31)) &&& (Int32.ofInt 1)) = (Int32.ofInt 1)) → True))))
theorem gX33_best_8 (k8 : Nat → Int32 → Int32 → Int32 → Int32 → FM → Option (Int32 × FM)) (a0 : Nat) (a1 : Int32) (a3 : Int32) (a4 : Int32) (a5 : Int32) (M : FM) (T : Ty M) (n_a0 : fm_is M 77 77 a0 = true) (h : HX33_best_8 a0 a1 a3 a4 a5 M) : gs (FX33_best_8 fN k8 a0 a1 a3 a4 a5 M) (GX33_best_8 a0 a1 a3 a4 a5 M) (kX33_best k8) (pX33_best M) := by
  delta FX33_best_8 BX33_best_8
  refine gs_fi (fun c0_0 => ?_) (fun c0_0 => ?_)
  · exact And.intro rfl (And.intro (And.intro T.1 T.2) ((ext_r _)))
  · refine gs_fi (fun c1_0 => ?_) (fun c1_0 => ?_)
    · refine gs_c n_a0 ?_
      have f5 := (tN_224 T.1 n_a0)
      have f6 := ((h.2 c0_0).1 c1_0).1
      refine gs_c ⟨f5, f6⟩ ?_
      refine gs_fi (fun c2_0 => ?_) (fun c2_0 => ?_)
      · exact gs_t (pX33_best_t (ext_r _)) (gX33_best_49 k8 _ _ _ _ _ _ ⟨T.1, T.2⟩  )
      · refine gs_c n_a0 ?_
        have f3 := (tN_224 T.1 n_a0)
        have f4 := (((h.2 c0_0).1 c1_0).2.2 c2_0).1
        refine gs_c ⟨f3, f4⟩ ?_
        exact gs_t (pX33_best_t (ext_r _)) (gX33_best_49 k8 _ _ _ _ _ _ ⟨T.1, T.2⟩  )
    · exact gs_t (pX33_best_t (ext_r _)) (gX33_best_49 k8 _ _ _ _ _ _ ⟨T.1, T.2⟩  )
noncomputable def GX33_best (a0 : Nat) (a1 : Int32) (a2 : Int32) (M : FM) : Int32 × FM := (FX33_best fN a0 a1 a2 M).getD (0, M)
def HX33_best (a0 : Nat) (a1 : Int32) (a2 : Int32) (M : FM) : Prop := ∃ r, FX33_best fN a0 a1 a2 M = some r ∧ OkR M r
theorem gX33_best (a0 : Nat) (a1 : Int32) (a2 : Int32) (M : FM) (h : HX33_best a0 a1 a2 M) : gd (FX33_best fN a0 a1 a2 M) (GX33_best a0 a1 a2 M) (OkR M) := gd_op h
noncomputable def GX33_isOn_29 (s0 : Int32) (M : FM) : Int32 × FM :=
  (s0, M)
theorem gX33_isOn_29 (s0 : Int32) (M : FM) (T : Ty M) (z_s0 : s0 = 0 ∨ s0 = 1) : gd (FX33_isOn_29 fN s0 M) (GX33_isOn_29 s0 M) (OkZ M) := by
  delta FX33_isOn_29 BX33_isOn_29
  exact gd_z z_s0 ⟨T.1, T.2⟩ (ext_r _) rfl
noncomputable def GX33_isOn_0 (a0 : Nat) (a1 : Int32) (M : FM) : Int32 × FM :=
  let x1 : Nat := (M.2.2 225 a0 0)
  let x2 : Nat := (M.2.2 226 a0 0)
  let r3 : Int32 × FM := GX33_best a0 ((M.1 228 a0 0) &&& (M.1 3 x1 a1.toNatClampNeg)) (M.1 3 x2 a1.toNatClampNeg) M
  fi (r3.1 ≤ 0) (
    GX33_isOn_29 (Int32.ofInt 0) r3.2) (
    GX33_isOn_29 (Int32.ofInt 1) r3.2)
def HX33_isOn_0 (a0 : Nat) (a1 : Int32) (M : FM) : Prop := let x1 : Nat := (M.2.2 225 a0 0); (fm_in M x1 a1 = true ∧ let x2 : Nat := (M.2.2 226 a0 0); (fm_in M x2 a1 = true ∧ (HX33_best a0 ((M.1 228 a0 0) &&& (M.1 3 x1 a1.toNatClampNeg)) (M.1 3 x2 a1.toNatClampNeg) M ∧ True)))
theorem gX33_isOn_0 (a0 : Nat) (a1 : Int32) (M : FM) (T : Ty M) (n_a0 : fm_is M 77 77 a0 = true) (h : HX33_isOn_0 a0 a1 M) : gd (FX33_isOn_0 fN a0 a1 M) (GX33_isOn_0 a0 a1 M) (OkZ M) := by
  delta FX33_isOn_0 BX33_isOn_0
  refine gd_c n_a0 ?_
  refine gd_c n_a0 ?_
  have f3 := (tN_225 T.1 n_a0)
  refine gd_c ⟨f3, h.1⟩ ?_
  refine gd_c n_a0 ?_
  have f2 := (tN_226 T.1 n_a0)
  refine gd_c ⟨f2, h.2.1⟩ ?_
  refine gd_c n_a0 ?_
  refine gd_b (gX33_best _ _ _ _ h.2.2.1) (fun K0 => ?_)
  refine gd_fi (fun c1_0 => ?_) (fun c1_0 => ?_)
  · exact gd_tZ K0.2 (gX33_isOn_29 _ _ ⟨K0.1.1, K0.1.2⟩ fz_0 )
  · exact gd_tZ K0.2 (gX33_isOn_29 _ _ ⟨K0.1.1, K0.1.2⟩ fz_1 )
noncomputable def GX33_isOn (a0 : Nat) (a1 : Int32) (M : FM) : Int32 × FM := GX33_isOn_0 a0 a1 M
def HX33_isOn (a0 : Nat) (a1 : Int32) (M : FM) : Prop := HX33_isOn_0 a0 a1 M
theorem gX33_isOn (a0 : Nat) (a1 : Int32) (M : FM) (T : Ty M) (n_a0 : fm_is M 77 77 a0 = true) (h : HX33_isOn a0 a1 M) : gd (FX33_isOn fN a0 a1 M) (GX33_isOn a0 a1 M) (OkZ M) := gX33_isOn_0 a0 a1 M T n_a0 h
noncomputable def GX30_line_54 (s0 : Int32) (M : FM) : Int32 × FM :=
  (s0, M)
theorem gX30_line_54 (s0 : Int32) (M : FM) (T : Ty M) (z_s0 : s0 = 0 ∨ s0 = 1) : gd (FX30_line_54 fN s0 M) (GX30_line_54 s0 M) (OkZ M) := by
  delta FX30_line_54 BX30_line_54
  exact gd_z z_s0 ⟨T.1, T.2⟩ (ext_r _) rfl
noncomputable def GX30_line_0 (a0 : Nat) (a1 : Int32) (a2 : Int32) (M : FM) : Int32 × FM :=
  fi (a2 = (Int32.ofInt 3)) (
    let x1 : Nat := (M.2.2 240 a0 0)
    let x2 : Nat := (M.2.2 245 x1 0)
    fi ((M.1 3 x2 a1.toNatClampNeg) = (Int32.ofInt 1)) (
      GX30_line_54 (Int32.ofInt 1) M) (
      GX30_line_54 (Int32.ofInt 0) M)) (
    fi (a2 = (Int32.ofInt 7)) (
      let x3 : Nat := (M.2.2 240 a0 0)
      let r4 : Int32 × FM := GX32_isDue x3 a1 M
      (r4.1, r4.2)) (
      fi (a2 = (Int32.ofInt 9)) (
        let x5 : Nat := (M.2.2 241 a0 0)
        let r6 : Int32 × FM := GX33_isOn x5 (((Int32.ofInt 2) * a1) + (Int32.ofInt 1)) M
        (r6.1, r6.2)) (
        let x7 : Nat := (M.2.2 241 a0 0)
        let r8 : Int32 × FM := GX33_isOn x7 ((Int32.ofInt 2) * a1) M
        (r8.1, r8.2))))
def HX30_line_0 (a0 : Nat) (a1 : Int32) (a2 : Int32) (M : FM) : Prop := ((a2 = (Int32.ofInt 3) → let x1 : Nat := (M.2.2 240 a0 0); let x2 : Nat := (M.2.2 245 x1 0); (fm_in M x2 a1 = true ∧ True)) ∧ (¬ (a2 = (Int32.ofInt 3)) → ((a2 = (Int32.ofInt 7) → let x3 : Nat := (M.2.2 240 a0 0); (HX32_isDue x3 a1 M ∧ True)) ∧ (¬ (a2 = (Int32.ofInt 7)) → ((a2 = (Int32.ofInt 9) → let x5 : Nat := (M.2.2 241 a0 0); (HX33_isOn x5 (((Int32.ofInt 2) * a1) + (Int32.ofInt 1)) M ∧ True)) ∧ (¬ (a2 = (Int32.ofInt 9)) → let x7 : Nat := (M.2.2 241 a0 0); (HX33_isOn x7 ((Int32.ofInt 2) * a1) M ∧ True)))))))
theorem gX30_line_0 (a0 : Nat) (a1 : Int32) (a2 : Int32) (M : FM) (T : Ty M) (n_a0 : fm_is M 79 79 a0 = true) (h : HX30_line_0 a0 a1 a2 M) : gd (FX30_line_0 fN a0 a1 a2 M) (GX30_line_0 a0 a1 a2 M) (OkZ M) := by
  delta FX30_line_0 BX30_line_0
  refine gd_fi (fun c0_0 => ?_) (fun c0_0 => ?_)
  · refine gd_c n_a0 ?_
    have f1 := (tN_240 T.1 n_a0)
    refine gd_c f1 ?_
    have f3 := (tN_245 T.1 (tN_240 T.1 n_a0))
    refine gd_c ⟨f3, (h.1 c0_0).1⟩ ?_
    refine gd_fi (fun c2_0 => ?_) (fun c2_0 => ?_)
    · exact gd_tZ (ext_r _) (gX30_line_54 _ _ ⟨T.1, T.2⟩ fz_1 )
    · exact gd_tZ (ext_r _) (gX30_line_54 _ _ ⟨T.1, T.2⟩ fz_0 )
  · refine gd_fi (fun c4_1 => ?_) (fun c4_1 => ?_)
    · refine gd_c n_a0 ?_
      have f5 := (tN_240 T.1 n_a0)
      refine gd_c f5 ?_
      have f7 := (tN_240 T.1 n_a0)
      refine gd_b (gX32_isDue _ _ _ ⟨T.1, T.2⟩ f7 ((h.2 c0_0).1 c4_1).1) (fun K6 => ?_)
      exact gd_z K6.2.2 ⟨K6.1.1, K6.1.2⟩ K6.2.1 rfl
    · refine gd_fi (fun c8_2 => ?_) (fun c8_2 => ?_)
      · refine gd_c n_a0 ?_
        have f9 := (tN_241 T.1 n_a0)
        refine gd_c f9 ?_
        have f11 := (tN_241 T.1 n_a0)
        refine gd_b (gX33_isOn _ _ _ ⟨T.1, T.2⟩ f11 (((h.2 c0_0).2 c4_1).1 c8_2).1) (fun K10 => ?_)
        exact gd_z K10.2.2 ⟨K10.1.1, K10.1.2⟩ K10.2.1 rfl
      · refine gd_c n_a0 ?_
        have f12 := (tN_241 T.1 n_a0)
        refine gd_c f12 ?_
        have f14 := (tN_241 T.1 n_a0)
        refine gd_b (gX33_isOn _ _ _ ⟨T.1, T.2⟩ f14 (((h.2 c0_0).2 c4_1).2 c8_2).1) (fun K13 => ?_)
        exact gd_z K13.2.2 ⟨K13.1.1, K13.1.2⟩ K13.2.1 rfl
noncomputable def GX30_line (a0 : Nat) (a1 : Int32) (a2 : Int32) (M : FM) : Int32 × FM := GX30_line_0 a0 a1 a2 M
def HX30_line (a0 : Nat) (a1 : Int32) (a2 : Int32) (M : FM) : Prop := HX30_line_0 a0 a1 a2 M
theorem gX30_line (a0 : Nat) (a1 : Int32) (a2 : Int32) (M : FM) (T : Ty M) (n_a0 : fm_is M 79 79 a0 = true) (h : HX30_line a0 a1 a2 M) : gd (FX30_line fN a0 a1 a2 M) (GX30_line a0 a1 a2 M) (OkZ M) := gX30_line_0 a0 a1 a2 M T n_a0 h
noncomputable def GX74_line_37 (s0 : Nat) (s1 : Int64) (M : FM) : FM :=
  let M1 : FM := fm_sL M 43 s0 0 s1
  M1
theorem gX74_line_37 (s0 : Nat) (s1 : Int64) (M : FM) (T : Ty M) (n_s0 : fm_is M 15 15 s0 = true) : gd (FX74_line_37 s0 s1 M) (GX74_line_37 s0 s1 M) (OkV M) := by
  delta FX74_line_37 BX74_line_37
  refine gd_c n_s0 ?_
  exact ⟨rfl, ⟨T.1, T.2⟩, (ext_dL (ext_r _))⟩
noncomputable def GX74_line_0 (a0 : Nat) (a1 : Int32) (a2 : Int32) (M : FM) : FM :=
  fi (a2 = 0) (
    let x1 : Nat := (M.2.2 31 a0 0)
    GX74_line_37 (M.2.2 31 a0 0) ((M.2.1 43 x1 0) &&& (((Int64.ofInt 1) <<< (a1.toInt64 &&& 63)) ^^^ (Int64.ofInt (-1)))) M) (
    let x2 : Nat := (M.2.2 31 a0 0)
    GX74_line_37 (M.2.2 31 a0 0) ((M.2.1 43 x2 0) ||| ((Int64.ofInt 1) <<< (a1.toInt64 &&& 63))) M)
theorem gX74_line_0 (a0 : Nat) (a1 : Int32) (a2 : Int32) (M : FM) (T : Ty M) (n_a0 : fm_is M 12 12 a0 = true) : gd (FX74_line_0 a0 a1 a2 M) (GX74_line_0 a0 a1 a2 M) (OkV M) := by
  delta FX74_line_0 BX74_line_0
  refine gd_c n_a0 ?_
  refine gd_fi (fun c0_0 => ?_) (fun c0_0 => ?_)
  · refine gd_c n_a0 ?_
    have f1 := (tN_31 T.1 n_a0)
    refine gd_c f1 ?_
    have f2 := (tN_31 T.1 n_a0)
    exact gd_tV (ext_r _) (gX74_line_37 _ _ _ ⟨T.1, T.2⟩ f2 )
  · refine gd_c n_a0 ?_
    have f3 := (tN_31 T.1 n_a0)
    refine gd_c f3 ?_
    have f4 := (tN_31 T.1 n_a0)
    exact gd_tV (ext_r _) (gX74_line_37 _ _ _ ⟨T.1, T.2⟩ f4 )
noncomputable def GX74_line (a0 : Nat) (a1 : Int32) (a2 : Int32) (M : FM) : FM := GX74_line_0 a0 a1 a2 M
theorem gX74_line (a0 : Nat) (a1 : Int32) (a2 : Int32) (M : FM) (T : Ty M) (n_a0 : fm_is M 12 12 a0 = true) : gd (FX74_line a0 a1 a2 M) (GX74_line a0 a1 a2 M) (OkV M) := gX74_line_0 a0 a1 a2 M T n_a0 
noncomputable def GX46_look_0 (a0 : Nat) (M : FM) : FM :=
  let x1 : Nat := (M.2.2 210 a0 0)
  let x2 : Nat := (M.2.2 19 x1 0)
  let r3 : Int32 × FM := GX30_line x2 (M.1 209 a0 0) (Int32.ofInt 3) M
  let x4 : Nat := (M.2.2 213 a0 0)
  let M5 : FM := GX74_line x4 (Int32.ofInt 3) r3.1 r3.2
  let r6 : Int32 × FM := GX30_line x2 (M5.1 209 a0 0) (Int32.ofInt 7) M5
  let x7 : Nat := (M5.2.2 213 a0 0)
  let M8 : FM := GX74_line x7 (Int32.ofInt 7) r6.1 r6.2
  let r9 : Int32 × FM := GX30_line x2 (M8.1 209 a0 0) (Int32.ofInt 9) M8
  let x10 : Nat := (M8.2.2 213 a0 0)
  let M11 : FM := GX74_line x10 (Int32.ofInt 9) r9.1 r9.2
  let r12 : Int32 × FM := GX30_line x2 (M11.1 209 a0 0) (Int32.ofInt 11) M11
  let x13 : Nat := (M11.2.2 213 a0 0)
  let M14 : FM := GX74_line x13 (Int32.ofInt 11) r12.1 r12.2
  let x15 : Nat := (M14.2.2 213 a0 0)
  let x16 : Nat := (M14.2.2 210 a0 0)
  let r17 : Int64 × FM := GX10_time x16 M14
  let x18 : Nat := (M14.2.2 36 x15 0)
  let M19 : FM := fm_sL r17.2 41 x18 0 r17.1
  M19
def HX46_look_0 (a0 : Nat) (M : FM) : Prop := let x1 : Nat := (M.2.2 210 a0 0); let x2 : Nat := (M.2.2 19 x1 0); (HX30_line x2 (M.1 209 a0 0) (Int32.ofInt 3) M ∧ let r3 : Int32 × FM := GX30_line x2 (M.1 209 a0 0) (Int32.ofInt 3) M; let x4 : Nat := (M.2.2 213 a0 0); let M5 : FM := GX74_line x4 (Int32.ofInt 3) r3.1 r3.2; (HX30_line x2 (M5.1 209 a0 0) (Int32.ofInt 7) M5 ∧ let r6 : Int32 × FM := GX30_line x2 (M5.1 209 a0 0) (Int32.ofInt 7) M5; let x7 : Nat := (M5.2.2 213 a0 0); let M8 : FM := GX74_line x7 (Int32.ofInt 7) r6.1 r6.2; (HX30_line x2 (M8.1 209 a0 0) (Int32.ofInt 9) M8 ∧ let r9 : Int32 × FM := GX30_line x2 (M8.1 209 a0 0) (Int32.ofInt 9) M8; let x10 : Nat := (M8.2.2 213 a0 0); let M11 : FM := GX74_line x10 (Int32.ofInt 9) r9.1 r9.2; (HX30_line x2 (M11.1 209 a0 0) (Int32.ofInt 11) M11 ∧ True))))
theorem gX46_look_0 (a0 : Nat) (M : FM) (T : Ty M) (n_a0 : fm_is M 75 75 a0 = true) (h : HX46_look_0 a0 M) : gd (FX46_look_0 fN a0 M) (GX46_look_0 a0 M) (OkV M) := by
  delta FX46_look_0 BX46_look_0
  refine gd_c n_a0 ?_
  have f0 := (tN_210 T.1 n_a0)
  refine gd_c f0 ?_
  refine gd_c n_a0 ?_
  refine gd_c n_a0 ?_
  have f1 := (tN_19 T.1 (tN_210 T.1 n_a0))
  refine gd_c f1 ?_
  have f37 := (tN_19 T.1 (tN_210 T.1 n_a0))
  refine gd_b (gX30_line _ _ _ _ ⟨T.1, T.2⟩ f37 h.1) (fun K2 => ?_)
  have f3 := (ext_is K2.2.1 (Nat.zero_lt_succ _) (tN_213 T.1 n_a0))
  refine gd_c f3 ?_
  have f36 := (ext_is K2.2.1 (Nat.zero_lt_succ _) (tN_213 T.1 n_a0))
  refine gd_b (gX74_line _ _ _ _ ⟨K2.1.1, K2.1.2⟩ f36 ) (fun K4 => ?_)
  have f5 := (ext_is K4.2 (Nat.zero_lt_succ _) (ext_is K2.2.1 (Nat.zero_lt_succ _) n_a0))
  refine gd_c f5 ?_
  have f6 := (ext_is K4.2 (Nat.zero_lt_succ _) (ext_is K2.2.1 (Nat.zero_lt_succ _) n_a0))
  refine gd_c f6 ?_
  have f7 := (ext_is K4.2 (Nat.zero_lt_succ _) (ext_is K2.2.1 (Nat.zero_lt_succ _) (tN_19 T.1 (tN_210 T.1 n_a0))))
  refine gd_c f7 ?_
  have f35 := (ext_is K4.2 (Nat.zero_lt_succ _) (ext_is K2.2.1 (Nat.zero_lt_succ _) (tN_19 T.1 (tN_210 T.1 n_a0))))
  refine gd_b (gX30_line _ _ _ _ ⟨K4.1.1, K4.1.2⟩ f35 h.2.1) (fun K8 => ?_)
  have f9 := (ext_is K8.2.1 (Nat.zero_lt_succ _) (tN_213 K4.1.1 (ext_is K4.2 (Nat.zero_lt_succ _) (ext_is K2.2.1 (Nat.zero_lt_succ _) n_a0))))
  refine gd_c f9 ?_
  have f34 := (ext_is K8.2.1 (Nat.zero_lt_succ _) (tN_213 K4.1.1 (ext_is K4.2 (Nat.zero_lt_succ _) (ext_is K2.2.1 (Nat.zero_lt_succ _) n_a0))))
  refine gd_b (gX74_line _ _ _ _ ⟨K8.1.1, K8.1.2⟩ f34 ) (fun K10 => ?_)
  have f11 := (ext_is K10.2 (Nat.zero_lt_succ _) (ext_is K8.2.1 (Nat.zero_lt_succ _) (ext_is K4.2 (Nat.zero_lt_succ _) (ext_is K2.2.1 (Nat.zero_lt_succ _) n_a0))))
  refine gd_c f11 ?_
  have f12 := (ext_is K10.2 (Nat.zero_lt_succ _) (ext_is K8.2.1 (Nat.zero_lt_succ _) (ext_is K4.2 (Nat.zero_lt_succ _) (ext_is K2.2.1 (Nat.zero_lt_succ _) n_a0))))
  refine gd_c f12 ?_
  have f13 := (ext_is K10.2 (Nat.zero_lt_succ _) (ext_is K8.2.1 (Nat.zero_lt_succ _) (ext_is K4.2 (Nat.zero_lt_succ _) (ext_is K2.2.1 (Nat.zero_lt_succ _) (tN_19 T.1 (tN_210 T.1 n_a0))))))
  refine gd_c f13 ?_
  have f33 := (ext_is K10.2 (Nat.zero_lt_succ _) (ext_is K8.2.1 (Nat.zero_lt_succ _) (ext_is K4.2 (Nat.zero_lt_succ _) (ext_is K2.2.1 (Nat.zero_lt_succ _) (tN_19 T.1 (tN_210 T.1 n_a0))))))
  refine gd_b (gX30_line _ _ _ _ ⟨K10.1.1, K10.1.2⟩ f33 h.2.2.1) (fun K14 => ?_)
  have f15 := (ext_is K14.2.1 (Nat.zero_lt_succ _) (tN_213 K10.1.1 (ext_is K10.2 (Nat.zero_lt_succ _) (ext_is K8.2.1 (Nat.zero_lt_succ _) (ext_is K4.2 (Nat.zero_lt_succ _) (ext_is K2.2.1 (Nat.zero_lt_succ _) n_a0))))))
  refine gd_c f15 ?_
  have f32 := (ext_is K14.2.1 (Nat.zero_lt_succ _) (tN_213 K10.1.1 (ext_is K10.2 (Nat.zero_lt_succ _) (ext_is K8.2.1 (Nat.zero_lt_succ _) (ext_is K4.2 (Nat.zero_lt_succ _) (ext_is K2.2.1 (Nat.zero_lt_succ _) n_a0))))))
  refine gd_b (gX74_line _ _ _ _ ⟨K14.1.1, K14.1.2⟩ f32 ) (fun K16 => ?_)
  have f17 := (ext_is K16.2 (Nat.zero_lt_succ _) (ext_is K14.2.1 (Nat.zero_lt_succ _) (ext_is K10.2 (Nat.zero_lt_succ _) (ext_is K8.2.1 (Nat.zero_lt_succ _) (ext_is K4.2 (Nat.zero_lt_succ _) (ext_is K2.2.1 (Nat.zero_lt_succ _) n_a0))))))
  refine gd_c f17 ?_
  have f18 := (ext_is K16.2 (Nat.zero_lt_succ _) (ext_is K14.2.1 (Nat.zero_lt_succ _) (ext_is K10.2 (Nat.zero_lt_succ _) (ext_is K8.2.1 (Nat.zero_lt_succ _) (ext_is K4.2 (Nat.zero_lt_succ _) (ext_is K2.2.1 (Nat.zero_lt_succ _) n_a0))))))
  refine gd_c f18 ?_
  have f19 := (ext_is K16.2 (Nat.zero_lt_succ _) (ext_is K14.2.1 (Nat.zero_lt_succ _) (ext_is K10.2 (Nat.zero_lt_succ _) (ext_is K8.2.1 (Nat.zero_lt_succ _) (ext_is K4.2 (Nat.zero_lt_succ _) (ext_is K2.2.1 (Nat.zero_lt_succ _) (tN_19 T.1 (tN_210 T.1 n_a0))))))))
  refine gd_c f19 ?_
  have f31 := (ext_is K16.2 (Nat.zero_lt_succ _) (ext_is K14.2.1 (Nat.zero_lt_succ _) (ext_is K10.2 (Nat.zero_lt_succ _) (ext_is K8.2.1 (Nat.zero_lt_succ _) (ext_is K4.2 (Nat.zero_lt_succ _) (ext_is K2.2.1 (Nat.zero_lt_succ _) (tN_19 T.1 (tN_210 T.1 n_a0))))))))
  refine gd_b (gX30_line _ _ _ _ ⟨K16.1.1, K16.1.2⟩ f31 h.2.2.2.1) (fun K20 => ?_)
  have f21 := (ext_is K20.2.1 (Nat.zero_lt_succ _) (tN_213 K16.1.1 (ext_is K16.2 (Nat.zero_lt_succ _) (ext_is K14.2.1 (Nat.zero_lt_succ _) (ext_is K10.2 (Nat.zero_lt_succ _) (ext_is K8.2.1 (Nat.zero_lt_succ _) (ext_is K4.2 (Nat.zero_lt_succ _) (ext_is K2.2.1 (Nat.zero_lt_succ _) n_a0))))))))
  refine gd_c f21 ?_
  have f30 := (ext_is K20.2.1 (Nat.zero_lt_succ _) (tN_213 K16.1.1 (ext_is K16.2 (Nat.zero_lt_succ _) (ext_is K14.2.1 (Nat.zero_lt_succ _) (ext_is K10.2 (Nat.zero_lt_succ _) (ext_is K8.2.1 (Nat.zero_lt_succ _) (ext_is K4.2 (Nat.zero_lt_succ _) (ext_is K2.2.1 (Nat.zero_lt_succ _) n_a0))))))))
  refine gd_b (gX74_line _ _ _ _ ⟨K20.1.1, K20.1.2⟩ f30 ) (fun K22 => ?_)
  have f23 := (ext_is K22.2 (Nat.zero_lt_succ _) (ext_is K20.2.1 (Nat.zero_lt_succ _) (ext_is K16.2 (Nat.zero_lt_succ _) (ext_is K14.2.1 (Nat.zero_lt_succ _) (ext_is K10.2 (Nat.zero_lt_succ _) (ext_is K8.2.1 (Nat.zero_lt_succ _) (ext_is K4.2 (Nat.zero_lt_succ _) (ext_is K2.2.1 (Nat.zero_lt_succ _) n_a0))))))))
  refine gd_c f23 ?_
  have f24 := (tN_213 K22.1.1 (ext_is K22.2 (Nat.zero_lt_succ _) (ext_is K20.2.1 (Nat.zero_lt_succ _) (ext_is K16.2 (Nat.zero_lt_succ _) (ext_is K14.2.1 (Nat.zero_lt_succ _) (ext_is K10.2 (Nat.zero_lt_succ _) (ext_is K8.2.1 (Nat.zero_lt_succ _) (ext_is K4.2 (Nat.zero_lt_succ _) (ext_is K2.2.1 (Nat.zero_lt_succ _) n_a0)))))))))
  refine gd_c f24 ?_
  have f25 := (ext_is K22.2 (Nat.zero_lt_succ _) (ext_is K20.2.1 (Nat.zero_lt_succ _) (ext_is K16.2 (Nat.zero_lt_succ _) (ext_is K14.2.1 (Nat.zero_lt_succ _) (ext_is K10.2 (Nat.zero_lt_succ _) (ext_is K8.2.1 (Nat.zero_lt_succ _) (ext_is K4.2 (Nat.zero_lt_succ _) (ext_is K2.2.1 (Nat.zero_lt_succ _) n_a0))))))))
  refine gd_c f25 ?_
  have f26 := (tN_210 K22.1.1 (ext_is K22.2 (Nat.zero_lt_succ _) (ext_is K20.2.1 (Nat.zero_lt_succ _) (ext_is K16.2 (Nat.zero_lt_succ _) (ext_is K14.2.1 (Nat.zero_lt_succ _) (ext_is K10.2 (Nat.zero_lt_succ _) (ext_is K8.2.1 (Nat.zero_lt_succ _) (ext_is K4.2 (Nat.zero_lt_succ _) (ext_is K2.2.1 (Nat.zero_lt_succ _) n_a0)))))))))
  refine gd_c f26 ?_
  have f29 := (tN_210 K22.1.1 (ext_is K22.2 (Nat.zero_lt_succ _) (ext_is K20.2.1 (Nat.zero_lt_succ _) (ext_is K16.2 (Nat.zero_lt_succ _) (ext_is K14.2.1 (Nat.zero_lt_succ _) (ext_is K10.2 (Nat.zero_lt_succ _) (ext_is K8.2.1 (Nat.zero_lt_succ _) (ext_is K4.2 (Nat.zero_lt_succ _) (ext_is K2.2.1 (Nat.zero_lt_succ _) n_a0)))))))))
  refine gd_b (gX10_time _ _ ⟨K22.1.1, K22.1.2⟩ f29 ) (fun K27 => ?_)
  have f28 := (ext_is K27.2 (Nat.zero_lt_succ _) (tN_36 K22.1.1 (tN_213 K22.1.1 (ext_is K22.2 (Nat.zero_lt_succ _) (ext_is K20.2.1 (Nat.zero_lt_succ _) (ext_is K16.2 (Nat.zero_lt_succ _) (ext_is K14.2.1 (Nat.zero_lt_succ _) (ext_is K10.2 (Nat.zero_lt_succ _) (ext_is K8.2.1 (Nat.zero_lt_succ _) (ext_is K4.2 (Nat.zero_lt_succ _) (ext_is K2.2.1 (Nat.zero_lt_succ _) n_a0)))))))))))
  refine gd_c f28 ?_
  exact ⟨rfl, ⟨K27.1.1, K27.1.2⟩, (ext_tr K2.2.1 (ext_tr K4.2 (ext_tr K8.2.1 (ext_tr K10.2 (ext_tr K14.2.1 (ext_tr K16.2 (ext_tr K20.2.1 (ext_tr K22.2 (ext_tr K27.2 (ext_dL (ext_r _)))))))))))⟩
noncomputable def GX46_look (a0 : Nat) (M : FM) : FM := GX46_look_0 a0 M
def HX46_look (a0 : Nat) (M : FM) : Prop := HX46_look_0 a0 M
theorem gX46_look (a0 : Nat) (M : FM) (T : Ty M) (n_a0 : fm_is M 75 75 a0 = true) (h : HX46_look a0 M) : gd (FX46_look fN a0 M) (GX46_look a0 M) (OkV M) := gX46_look_0 a0 M T n_a0 h
noncomputable def GX79_show_0 (a0 : Nat) (M : FM) : Int64 × FM :=
  (((M.2.1 41 a0 0) ||| (M.2.1 43 a0 0)), M)
theorem gX79_show_0 (a0 : Nat) (M : FM) (T : Ty M) (n_a0 : fm_is M 15 15 a0 = true) : gd (FX79_show_0 a0 M) (GX79_show_0 a0 M) (OkR M) := by
  delta FX79_show_0 BX79_show_0
  refine gd_c n_a0 ?_
  refine gd_c n_a0 ?_
  exact ⟨rfl, ⟨T.1, T.2⟩, (ext_r _)⟩
noncomputable def GX79_show (a0 : Nat) (M : FM) : Int64 × FM := GX79_show_0 a0 M
theorem gX79_show (a0 : Nat) (M : FM) (T : Ty M) (n_a0 : fm_is M 15 15 a0 = true) : gd (FX79_show a0 M) (GX79_show a0 M) (OkR M) := gX79_show_0 a0 M T n_a0 
noncomputable def GX77_show_0 (a0 : Nat) (M : FM) : Int64 × FM :=
  ((M.2.1 41 a0 0), M)
theorem gX77_show_0 (a0 : Nat) (M : FM) (T : Ty M) (n_a0 : fm_is M 14 17 a0 = true) : gd (FX77_show_0 a0 M) (GX77_show_0 a0 M) (OkR M) := by
  delta FX77_show_0 BX77_show_0
  refine gd_c n_a0 ?_
  exact ⟨rfl, ⟨T.1, T.2⟩, (ext_r _)⟩
noncomputable def GX77_show (a0 : Nat) (M : FM) : Int64 × FM := GX77_show_0 a0 M
theorem gX77_show (a0 : Nat) (M : FM) (T : Ty M) (n_a0 : fm_is M 14 17 a0 = true) : gd (FX77_show a0 M) (GX77_show a0 M) (OkR M) := gX77_show_0 a0 M T n_a0 
noncomputable def GX78_two_0 (a0 : Nat) (a1 : Int32) (M : FM) : Int32 × FM :=
  ((((M.2.1 41 a0 0) >>> (a1.toInt64 &&& 63)).toInt32 &&& (Int32.ofInt 3)), M)
theorem gX78_two_0 (a0 : Nat) (a1 : Int32) (M : FM) (T : Ty M) (n_a0 : fm_is M 16 16 a0 = true) : gd (FX78_two_0 a0 a1 M) (GX78_two_0 a0 a1 M) (OkR M) := by
  delta FX78_two_0 BX78_two_0
  refine gd_c n_a0 ?_
  exact ⟨rfl, ⟨T.1, T.2⟩, (ext_r _)⟩
noncomputable def GX78_two (a0 : Nat) (a1 : Int32) (M : FM) : Int32 × FM := GX78_two_0 a0 a1 M
theorem gX78_two (a0 : Nat) (a1 : Int32) (M : FM) (T : Ty M) (n_a0 : fm_is M 16 16 a0 = true) : gd (FX78_two a0 a1 M) (GX78_two a0 a1 M) (OkR M) := gX78_two_0 a0 a1 M T n_a0 
