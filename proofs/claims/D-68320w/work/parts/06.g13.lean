/-! functions without guards, printed by gen/gg.py -/
set_option maxRecDepth 100000
noncomputable def GX99_bit_33 (s0 : Int32) (M : FM) : Int32 × FM :=
  (s0, M)
theorem gX99_bit_33 (s0 : Int32) (M : FM) (T : Ty M) (z_s0 : s0 = 0 ∨ s0 = 1) : gd (FX99_bit_33 s0 M) (GX99_bit_33 s0 M) (OkZ M) := by
  delta FX99_bit_33 BX99_bit_33
  exact gd_z z_s0 ⟨T.1, T.2⟩ (ext_r _) rfl
noncomputable def GX99_bit_32 (M : FM) : Int32 × FM :=
  GX99_bit_33 (Int32.ofInt 0) M
theorem gX99_bit_32 (M : FM) (T : Ty M) : gd (FX99_bit_32 M) (GX99_bit_32 M) (OkZ M) := by
  delta FX99_bit_32 BX99_bit_32
  exact gd_tZ (ext_r _) (gX99_bit_33 _ _ ⟨T.1, T.2⟩ fz_0 )
noncomputable def GX99_bit_0 (a0 : Nat) (a1 : Int32) (M : FM) : Int32 × FM :=
  fi (a1 < 0) (
    GX99_bit_32 M) (
    fi ((Int32.ofInt 3520) ≤ a1) (
      GX99_bit_32 M) (
      let x1 : Int32 := (a1 / (Int32.ofInt 16))
      fi ((((M.1 3 a0 x1.toNatClampNeg) >>> ((a1 - a1 / (Int32.ofInt 16) * (Int32.ofInt 16)) &&& 31)) &&& (Int32.ofInt 1)) = (Int32.ofInt 1)) (
        GX99_bit_33 (Int32.ofInt 1) M) (
        GX99_bit_32 M)))
def HX99_bit_0 (a0 : Nat) (a1 : Int32) (M : FM) : Prop := ((a1 < 0 → True) ∧ (¬ (a1 < 0) → (((Int32.ofInt 3520) ≤ a1 → True) ∧ (¬ ((Int32.ofInt 3520) ≤ a1) → let x1 : Int32 := (a1 / (Int32.ofInt 16)); (fm_in M a0 x1 = true ∧ True)))))
theorem gX99_bit_0 (a0 : Nat) (a1 : Int32) (M : FM) (T : Ty M) (n_a0 : fm_is M 901 901 a0 = true) (h : HX99_bit_0 a0 a1 M) : gd (FX99_bit_0 a0 a1 M) (GX99_bit_0 a0 a1 M) (OkZ M) := by
  delta FX99_bit_0 BX99_bit_0
  refine gd_fi (fun c0_0 => ?_) (fun c0_0 => ?_)
  · exact gd_tZ (ext_r _) (gX99_bit_32  _ ⟨T.1, T.2⟩  )
  · refine gd_fi (fun c1_0 => ?_) (fun c1_0 => ?_)
    · exact gd_tZ (ext_r _) (gX99_bit_32  _ ⟨T.1, T.2⟩  )
    · refine gd_n (by decide) ?_
      have f3 := ((h.2 c0_0).2 c1_0).1
      refine gd_c ⟨n_a0, f3⟩ ?_
      refine gd_n (by decide) ?_
      refine gd_fi (fun c2_0 => ?_) (fun c2_0 => ?_)
      · exact gd_tZ (ext_r _) (gX99_bit_33 _ _ ⟨T.1, T.2⟩ fz_1 )
      · exact gd_tZ (ext_r _) (gX99_bit_32  _ ⟨T.1, T.2⟩  )
noncomputable def GX99_bit (a0 : Nat) (a1 : Int32) (M : FM) : Int32 × FM := GX99_bit_0 a0 a1 M
def HX99_bit (a0 : Nat) (a1 : Int32) (M : FM) : Prop := HX99_bit_0 a0 a1 M
theorem gX99_bit (a0 : Nat) (a1 : Int32) (M : FM) (T : Ty M) (n_a0 : fm_is M 901 901 a0 = true) (h : HX99_bit a0 a1 M) : gd (FX99_bit a0 a1 M) (GX99_bit a0 a1 M) (OkZ M) := gX99_bit_0 a0 a1 M T n_a0 h
def kX99_length (k4 : Nat → Int32 → FM → Option (Int32 × FM)) : (Nat × Int32 × FM) ⊕ (Int32 × FM) → Option (Int32 × FM)
  | .inl (v0, v1, M') => k4 v0 v1 M'
  | .inr (r) => some r
def pX99_length (M : FM) : (Nat × Int32 × FM) ⊕ (Int32 × FM) → Prop
  | .inl (_, _, M') => OkV M M'
  | .inr (r) => OkR M r
theorem pX99_length_t {M M1 : FM} (e : Ext M M1) : ∀ y, pX99_length M1 y → pX99_length M y
  | .inl (_, _, _), h => ⟨h.1, ext_tr e h.2⟩
  | .inr (r), h => ⟨h.1, ext_tr e h.2⟩
noncomputable def GX99_length_24 (a1 : Int32) (M : FM) : (Nat × Int32 × FM) ⊕ (Int32 × FM) :=
  (.inr (a1, M))
theorem gX99_length_24 (k4 : Nat → Int32 → FM → Option (Int32 × FM)) (a1 : Int32) (M : FM) (T : Ty M) : gs (FX99_length_24 fN k4 a1 M) (GX99_length_24 a1 M) (kX99_length k4) (pX99_length M) := by
  delta FX99_length_24 BX99_length_24
  exact And.intro rfl (And.intro (And.intro T.1 T.2) ((ext_r _)))
noncomputable def GX99_length_0 (a0 : Nat) (M : FM) : (Nat × Int32 × FM) ⊕ (Int32 × FM) :=
  (.inl (a0, (Int32.ofInt 3520), M))
theorem gX99_length_0 (k4 : Nat → Int32 → FM → Option (Int32 × FM)) (a0 : Nat) (M : FM) (T : Ty M) : gs (FX99_length_0 fN k4 a0 M) (GX99_length_0 a0 M) (kX99_length k4) (pX99_length M) := by
  delta FX99_length_0 BX99_length_0
  exact And.intro rfl (And.intro (And.intro T.1 T.2) ((ext_r _)))
noncomputable def GX99_length_4 (a0 : Nat) (a1 : Int32) (M : FM) : (Nat × Int32 × FM) ⊕ (Int32 × FM) :=
  fi (a1 ≤ 0) (
    GX99_length_24 a1 M) (
    let r1 : Int32 × FM := GX99_bit a0 (a1 - (Int32.ofInt 1)) M
    fi (r1.1 = 0) (
      let x2 : Int32 := a1 + (Int32.ofInt (-1))
      (.inl (a0, x2, r1.2))) (
      GX99_length_24 a1 r1.2))
def HX99_length_4 (a0 : Nat) (a1 : Int32) (M : FM) : Prop := ((a1 ≤ 0 → True) ∧ (¬ (a1 ≤ 0) → (HX99_bit a0 (a1 - (Int32.ofInt 1)) M ∧ True)))
theorem gX99_length_4 (k4 : Nat → Int32 → FM → Option (Int32 × FM)) (a0 : Nat) (a1 : Int32) (M : FM) (T : Ty M) (n_a0 : fm_is M 901 901 a0 = true) (h : HX99_length_4 a0 a1 M) : gs (FX99_length_4 fN k4 a0 a1 M) (GX99_length_4 a0 a1 M) (kX99_length k4) (pX99_length M) := by
  delta FX99_length_4 BX99_length_4
  refine gs_fi (fun c0_0 => ?_) (fun c0_0 => ?_)
  · exact gs_t (pX99_length_t (ext_r _)) (gX99_length_24 k4 _ _ ⟨T.1, T.2⟩  )
  · refine gs_b (gX99_bit _ _ _ ⟨T.1, T.2⟩ n_a0 (h.2 c0_0).1) (fun K1 => ?_)
    refine gs_fi (fun c2_0 => ?_) (fun c2_0 => ?_)
    · exact And.intro rfl (And.intro (And.intro K1.1.1 K1.1.2) K1.2.1)
    · exact gs_t (pX99_length_t K1.2.1) (gX99_length_24 k4 _ _ ⟨K1.1.1, K1.1.2⟩  )
noncomputable def GX99_length (a0 : Nat) (M : FM) : Int32 × FM := (FX99_length fN a0 M).getD (0, M)
def HX99_length (a0 : Nat) (M : FM) : Prop := ∃ r, FX99_length fN a0 M = some r ∧ OkR M r
theorem gX99_length (a0 : Nat) (M : FM) (h : HX99_length a0 M) : gd (FX99_length fN a0 M) (GX99_length a0 M) (OkR M) := gd_op h
noncomputable def GX99_zero_0 (a0 : Nat) (a1 : Int32) (a2 : Int32) (M : FM) : Int64 × FM :=
  let r1 : Int64 × FM := GX99_pack a1 (Int64.ofInt 0) (Int64.ofInt 0) a2 M
  (r1.1, r1.2)
theorem gX99_zero_0 (a0 : Nat) (a1 : Int32) (a2 : Int32) (M : FM) (T : Ty M) : gd (FX99_zero_0 a0 a1 a2 M) (GX99_zero_0 a0 a1 a2 M) (OkR M) := by
  delta FX99_zero_0 BX99_zero_0
  refine gd_b (gX99_pack _ _ _ _ _ ⟨T.1, T.2⟩  ) (fun K0 => ?_)
  exact ⟨rfl, ⟨K0.1.1, K0.1.2⟩, K0.2⟩
noncomputable def GX99_zero (a0 : Nat) (a1 : Int32) (a2 : Int32) (M : FM) : Int64 × FM := GX99_zero_0 a0 a1 a2 M
theorem gX99_zero (a0 : Nat) (a1 : Int32) (a2 : Int32) (M : FM) (T : Ty M) : gd (FX99_zero a0 a1 a2 M) (GX99_zero a0 a1 a2 M) (OkR M) := gX99_zero_0 a0 a1 a2 M T 
def kX99_compare (k4 : Nat → Nat → Int32 → FM → Option (Int32 × FM)) : (Nat × Nat × Int32 × FM) ⊕ (Int32 × FM) → Option (Int32 × FM)
  | .inl (v0, v1, v2, M') => k4 v0 v1 v2 M'
  | .inr (r) => some r
def pX99_compare (M : FM) : (Nat × Nat × Int32 × FM) ⊕ (Int32 × FM) → Prop
  | .inl (_, _, _, M') => OkV M M'
  | .inr (r) => OkR M r
theorem pX99_compare_t {M M1 : FM} (e : Ext M M1) : ∀ y, pX99_compare M1 y → pX99_compare M y
  | .inl (_, _, _, _), h => ⟨h.1, ext_tr e h.2⟩
  | .inr (r), h => ⟨h.1, ext_tr e h.2⟩
noncomputable def GX99_compare_31 (s0 : Int32) (M : FM) : (Nat × Nat × Int32 × FM) ⊕ (Int32 × FM) :=
  (.inr (s0, M))
theorem gX99_compare_31 (k4 : Nat → Nat → Int32 → FM → Option (Int32 × FM)) (s0 : Int32) (M : FM) (T : Ty M) : gs (FX99_compare_31 fN k4 s0 M) (GX99_compare_31 s0 M) (kX99_compare k4) (pX99_compare M) := by
  delta FX99_compare_31 BX99_compare_31
  exact And.intro rfl (And.intro (And.intro T.1 T.2) ((ext_r _)))
noncomputable def GX99_compare_0 (a0 : Nat) (a1 : Nat) (M : FM) : (Nat × Nat × Int32 × FM) ⊕ (Int32 × FM) :=
  (.inl (a0, a1, (Int32.ofInt 219), M))
theorem gX99_compare_0 (k4 : Nat → Nat → Int32 → FM → Option (Int32 × FM)) (a0 : Nat) (a1 : Nat) (M : FM) (T : Ty M) : gs (FX99_compare_0 fN k4 a0 a1 M) (GX99_compare_0 a0 a1 M) (kX99_compare k4) (pX99_compare M) := by
  delta FX99_compare_0 BX99_compare_0
  exact And.intro rfl (And.intro (And.intro T.1 T.2) ((ext_r _)))
noncomputable def GX99_compare_4 (a0 : Nat) (a1 : Nat) (a2 : Int32) (M : FM) : (Nat × Nat × Int32 × FM) ⊕ (Int32 × FM) :=
  fi (a2 < 0) (
    (.inr ((Int32.ofInt 0), M))) (
    fi ((M.1 3 a0 a2.toNatClampNeg) = (M.1 3 a1 a2.toNatClampNeg)) (
      let x1 : Int32 := a2 + (Int32.ofInt (-1))
      (.inl (a0, a1, x1, M))) (
      fi ((M.1 3 a1 a2.toNatClampNeg) ≤ (M.1 3 a0 a2.toNatClampNeg)) (
        GX99_compare_31 (Int32.ofInt 1) M) (
        GX99_compare_31 (Int32.ofInt (-1)) M)))
def HX99_compare_4 (a0 : Nat) (a1 : Nat) (a2 : Int32) (M : FM) : Prop := ((a2 < 0 → True) ∧ (¬ (a2 < 0) → (fm_in M a0 a2 = true ∧ (fm_in M a1 a2 = true ∧ (((M.1 3 a0 a2.toNatClampNeg) = (M.1 3 a1 a2.toNatClampNeg) → True) ∧ (¬ ((M.1 3 a0 a2.toNatClampNeg) = (M.1 3 a1 a2.toNatClampNeg)) → (fm_in M a0 a2 = true ∧ (fm_in M a1 a2 = true ∧ True))))))))
theorem gX99_compare_4 (k4 : Nat → Nat → Int32 → FM → Option (Int32 × FM)) (a0 : Nat) (a1 : Nat) (a2 : Int32) (M : FM) (T : Ty M) (n_a0 : fm_is M 901 901 a0 = true) (n_a1 : fm_is M 901 901 a1 = true) (h : HX99_compare_4 a0 a1 a2 M) : gs (FX99_compare_4 fN k4 a0 a1 a2 M) (GX99_compare_4 a0 a1 a2 M) (kX99_compare k4) (pX99_compare M) := by
  delta FX99_compare_4 BX99_compare_4
  refine gs_fi (fun c0_0 => ?_) (fun c0_0 => ?_)
  · exact And.intro rfl (And.intro (And.intro T.1 T.2) ((ext_r _)))
  · refine gs_c ⟨n_a0, (h.2 c0_0).1⟩ ?_
    refine gs_c ⟨n_a1, (h.2 c0_0).2.1⟩ ?_
    refine gs_fi (fun c1_0 => ?_) (fun c1_0 => ?_)
    · exact And.intro rfl (And.intro (And.intro T.1 T.2) ((ext_r _)))
    · have f4 := ((h.2 c0_0).2.2.2 c1_0).1
      refine gs_c ⟨n_a0, f4⟩ ?_
      have f3 := ((h.2 c0_0).2.2.2 c1_0).2.1
      refine gs_c ⟨n_a1, f3⟩ ?_
      refine gs_fi (fun c2_0 => ?_) (fun c2_0 => ?_)
      · exact gs_t (pX99_compare_t (ext_r _)) (gX99_compare_31 k4 _ _ ⟨T.1, T.2⟩  )
      · exact gs_t (pX99_compare_t (ext_r _)) (gX99_compare_31 k4 _ _ ⟨T.1, T.2⟩  )
noncomputable def GX99_compare (a0 : Nat) (a1 : Nat) (M : FM) : Int32 × FM := (FX99_compare fN a0 a1 M).getD (0, M)
def HX99_compare (a0 : Nat) (a1 : Nat) (M : FM) : Prop := ∃ r, FX99_compare fN a0 a1 M = some r ∧ OkR M r
theorem gX99_compare (a0 : Nat) (a1 : Nat) (M : FM) (h : HX99_compare a0 a1 M) : gd (FX99_compare fN a0 a1 M) (GX99_compare a0 a1 M) (OkR M) := gd_op h
def kX99_raise (k15 : Nat → Int32 → Int32 → Int32 → FM → Option (FM)) : (Nat × Int32 × Int32 × Int32 × FM) ⊕ (FM) → Option (FM)
  | .inl (v0, v1, v2, v3, M') => k15 v0 v1 v2 v3 M'
  | .inr (r) => some r
def pX99_raise (M : FM) : (Nat × Int32 × Int32 × Int32 × FM) ⊕ (FM) → Prop
  | .inl (_, _, _, _, M') => OkV M M'
  | .inr (r) => OkV M r
theorem pX99_raise_t {M M1 : FM} (e : Ext M M1) : ∀ y, pX99_raise M1 y → pX99_raise M y
  | .inl (_, _, _, _, _), h => ⟨h.1, ext_tr e h.2⟩
  | .inr (r), h => ⟨h.1, ext_tr e h.2⟩
noncomputable def GX99_raise_66 (a0 : Nat) (a2 : Int32) (a3 : Int32) (a4 : Int32) (a6 : Int32) (s0 : Int32) (M : FM) : (Nat × Int32 × Int32 × Int32 × FM) ⊕ (FM) :=
  let M1 : FM := fm_sI M 3 a0 a4.toNatClampNeg (a6 ||| s0)
  let x2 : Int32 := a4 + (Int32.ofInt (-1))
  (.inl (a0, a2, a3, x2, M1))
def HX99_raise_66 (a0 : Nat) (a2 : Int32) (a3 : Int32) (a4 : Int32) (a6 : Int32) (s0 : Int32) (M : FM) : Prop := (fm_in M a0 a4 = true ∧ True)
theorem gX99_raise_66 (k15 : Nat → Int32 → Int32 → Int32 → FM → Option (FM)) (a0 : Nat) (a2 : Int32) (a3 : Int32) (a4 : Int32) (a6 : Int32) (s0 : Int32) (M : FM) (T : Ty M) (n_a0 : fm_is M 901 901 a0 = true) (h : HX99_raise_66 a0 a2 a3 a4 a6 s0 M) : gs (FX99_raise_66 fN k15 a0 a2 a3 a4 a6 s0 M) (GX99_raise_66 a0 a2 a3 a4 a6 s0 M) (kX99_raise k15) (pX99_raise M) := by
  delta FX99_raise_66 BX99_raise_66
  refine gs_c ⟨n_a0, h.1⟩ ?_
  exact And.intro rfl (And.intro (And.intro T.1 (tyb_s3 (t := 901) rfl T.2 n_a0)) ((ext_dI (ext_r _))))
noncomputable def GX99_raise_44 (a0 : Nat) (a2 : Int32) (a3 : Int32) (a4 : Int32) (a5 : Int32) (s0 : Int32) (M : FM) : (Nat × Int32 × Int32 × Int32 × FM) ⊕ (FM) :=
  fi (a5 ≤ 0) (
    GX99_raise_66 a0 a2 a3 a4 s0 (Int32.ofInt 0) M) (
    let x1 : Int32 := (a5 - (Int32.ofInt 1))
    GX99_raise_66 a0 a2 a3 a4 s0 (((M.1 3 a0 x1.toNatClampNeg) <<< (a3 &&& 31)) >>> ((Int32.ofInt 16) &&& 31)) M)
def HX99_raise_44 (a0 : Nat) (a2 : Int32) (a3 : Int32) (a4 : Int32) (a5 : Int32) (s0 : Int32) (M : FM) : Prop := ((a5 ≤ 0 → HX99_raise_66 a0 a2 a3 a4 s0 (Int32.ofInt 0) M) ∧ (¬ (a5 ≤ 0) → let x1 : Int32 := (a5 - (Int32.ofInt 1)); (fm_in M a0 x1 = true ∧ HX99_raise_66 a0 a2 a3 a4 s0 (((M.1 3 a0 x1.toNatClampNeg) <<< (a3 &&& 31)) >>> ((Int32.ofInt 16) &&& 31)) M)))
theorem gX99_raise_44 (k15 : Nat → Int32 → Int32 → Int32 → FM → Option (FM)) (a0 : Nat) (a2 : Int32) (a3 : Int32) (a4 : Int32) (a5 : Int32) (s0 : Int32) (M : FM) (T : Ty M) (n_a0 : fm_is M 901 901 a0 = true) (h : HX99_raise_44 a0 a2 a3 a4 a5 s0 M) : gs (FX99_raise_44 fN k15 a0 a2 a3 a4 a5 s0 M) (GX99_raise_44 a0 a2 a3 a4 a5 s0 M) (kX99_raise k15) (pX99_raise M) := by
  delta FX99_raise_44 BX99_raise_44
  refine gs_fi (fun c0_0 => ?_) (fun c0_0 => ?_)
  · exact gs_t (pX99_raise_t (ext_r _)) (gX99_raise_66 k15 _ _ _ _ _ _ _ ⟨T.1, T.2⟩ n_a0 (h.1 c0_0))
  · refine gs_c ⟨n_a0, (h.2 c0_0).1⟩ ?_
    exact gs_t (pX99_raise_t (ext_r _)) (gX99_raise_66 k15 _ _ _ _ _ _ _ ⟨T.1, T.2⟩ n_a0 (h.2 c0_0).2)
noncomputable def GX99_raise_0 (a0 : Nat) (a1 : Int32) (M : FM) : (Nat × Int32 × Int32 × Int32 × FM) ⊕ (FM) :=
  let x1 : Int32 := (a1 / (Int32.ofInt 16))
  let x2 : Int32 := (a1 - a1 / (Int32.ofInt 16) * (Int32.ofInt 16))
  (.inl (a0, x1, x2, (Int32.ofInt 219), M))
theorem gX99_raise_0 (k15 : Nat → Int32 → Int32 → Int32 → FM → Option (FM)) (a0 : Nat) (a1 : Int32) (M : FM) (T : Ty M) : gs (FX99_raise_0 fN k15 a0 a1 M) (GX99_raise_0 a0 a1 M) (kX99_raise k15) (pX99_raise M) := by
  delta FX99_raise_0 BX99_raise_0
  refine gs_n (by decide) ?_
  refine gs_n (by decide) ?_
  exact And.intro rfl (And.intro (And.intro T.1 T.2) ((ext_r _)))
noncomputable def GX99_raise_15 (a0 : Nat) (a2 : Int32) (a3 : Int32) (a4 : Int32) (M : FM) : (Nat × Int32 × Int32 × Int32 × FM) ⊕ (FM) :=
  fi (a4 < 0) (
    (.inr M)) (
    let x1 : Int32 := (a4 - a2)
    fi (x1 < 0) (
      GX99_raise_44 a0 a2 a3 a4 x1 (Int32.ofInt 0) M) (
      GX99_raise_44 a0 a2 a3 a4 x1 (((M.1 3 a0 x1.toNatClampNeg) <<< (a3 &&& 31)) &&& (Int32.ofInt 65535)) M))
def HX99_raise_15 (a0 : Nat) (a2 : Int32) (a3 : Int32) (a4 : Int32) (M : FM) : Prop := ((a4 < 0 → True) ∧ (¬ (a4 < 0) → let x1 : Int32 := (a4 - a2); ((x1 < 0 → HX99_raise_44 a0 a2 a3 a4 x1 (Int32.ofInt 0) M) ∧ (¬ (x1 < 0) → (fm_in M a0 x1 = true ∧ HX99_raise_44 a0 a2 a3 a4 x1 (((M.1 3 a0 x1.toNatClampNeg) <<< (a3 &&& 31)) &&& (Int32.ofInt 65535)) M)))))
theorem gX99_raise_15 (k15 : Nat → Int32 → Int32 → Int32 → FM → Option (FM)) (a0 : Nat) (a2 : Int32) (a3 : Int32) (a4 : Int32) (M : FM) (T : Ty M) (n_a0 : fm_is M 901 901 a0 = true) (h : HX99_raise_15 a0 a2 a3 a4 M) : gs (FX99_raise_15 fN k15 a0 a2 a3 a4 M) (GX99_raise_15 a0 a2 a3 a4 M) (kX99_raise k15) (pX99_raise M) := by
  delta FX99_raise_15 BX99_raise_15
  refine gs_fi (fun c0_0 => ?_) (fun c0_0 => ?_)
  · exact And.intro rfl (And.intro (And.intro T.1 T.2) ((ext_r _)))
  · refine gs_fi (fun c1_0 => ?_) (fun c1_0 => ?_)
    · exact gs_t (pX99_raise_t (ext_r _)) (gX99_raise_44 k15 _ _ _ _ _ _ _ ⟨T.1, T.2⟩ n_a0 ((h.2 c0_0).1 c1_0))
    · have f2 := ((h.2 c0_0).2 c1_0).1
      refine gs_c ⟨n_a0, f2⟩ ?_
      exact gs_t (pX99_raise_t (ext_r _)) (gX99_raise_44 k15 _ _ _ _ _ _ _ ⟨T.1, T.2⟩ n_a0 ((h.2 c0_0).2 c1_0).2)
noncomputable def GX99_raise (a0 : Nat) (a1 : Int32) (M : FM) : FM := (FX99_raise fN a0 a1 M).getD M
def HX99_raise (a0 : Nat) (a1 : Int32) (M : FM) : Prop := ∃ r, FX99_raise fN a0 a1 M = some r ∧ OkV M r
theorem gX99_raise (a0 : Nat) (a1 : Int32) (M : FM) (h : HX99_raise a0 a1 M) : gd (FX99_raise fN a0 a1 M) (GX99_raise a0 a1 M) (OkV M) := gd_op h
def kX99_add (k4 : Nat → Nat → Int32 → Int32 → FM → Option (FM)) : (Nat × Nat × Int32 × Int32 × FM) ⊕ (FM) → Option (FM)
  | .inl (v0, v1, v2, v3, M') => k4 v0 v1 v2 v3 M'
  | .inr (r) => some r
def pX99_add (M : FM) : (Nat × Nat × Int32 × Int32 × FM) ⊕ (FM) → Prop
  | .inl (_, _, _, _, M') => OkV M M'
  | .inr (r) => OkV M r
theorem pX99_add_t {M M1 : FM} (e : Ext M M1) : ∀ y, pX99_add M1 y → pX99_add M y
  | .inl (_, _, _, _, _), h => ⟨h.1, ext_tr e h.2⟩
  | .inr (r), h => ⟨h.1, ext_tr e h.2⟩
noncomputable def GX99_add_0 (a0 : Nat) (a1 : Nat) (M : FM) : (Nat × Nat × Int32 × Int32 × FM) ⊕ (FM) :=
  (.inl (a0, a1, (Int32.ofInt 0), (Int32.ofInt 0), M))
theorem gX99_add_0 (k4 : Nat → Nat → Int32 → Int32 → FM → Option (FM)) (a0 : Nat) (a1 : Nat) (M : FM) (T : Ty M) : gs (FX99_add_0 fN k4 a0 a1 M) (GX99_add_0 a0 a1 M) (kX99_add k4) (pX99_add M) := by
  delta FX99_add_0 BX99_add_0
  exact And.intro rfl (And.intro (And.intro T.1 T.2) ((ext_r _)))
noncomputable def GX99_add_4 (a0 : Nat) (a1 : Nat) (a2 : Int32) (a3 : Int32) (M : FM) : (Nat × Nat × Int32 × Int32 × FM) ⊕ (FM) :=
  fi ((Int32.ofInt 220) ≤ a3) (
    (.inr M)) (
    let x1 : Int32 := (((M.1 3 a0 a3.toNatClampNeg) + (M.1 3 a1 a3.toNatClampNeg)) + a2)
    let M2 : FM := fm_sI M 3 a0 a3.toNatClampNeg (x1 &&& (Int32.ofInt 65535))
    let x3 : Int32 := (x1 >>> ((Int32.ofInt 16) &&& 31))
    let x4 : Int32 := a3 + (Int32.ofInt 1)
    (.inl (a0, a1, x3, x4, M2)))
def HX99_add_4 (a0 : Nat) (a1 : Nat) (a2 : Int32) (a3 : Int32) (M : FM) : Prop := (((Int32.ofInt 220) ≤ a3 → True) ∧ (¬ ((Int32.ofInt 220) ≤ a3) → (fm_in M a0 a3 = true ∧ (fm_in M a1 a3 = true ∧ let x1 : Int32 := (((M.1 3 a0 a3.toNatClampNeg) + (M.1 3 a1 a3.toNatClampNeg)) + a2); (fm_in M a0 a3 = true ∧ True)))))
theorem gX99_add_4 (k4 : Nat → Nat → Int32 → Int32 → FM → Option (FM)) (a0 : Nat) (a1 : Nat) (a2 : Int32) (a3 : Int32) (M : FM) (T : Ty M) (n_a0 : fm_is M 901 901 a0 = true) (n_a1 : fm_is M 901 901 a1 = true) (h : HX99_add_4 a0 a1 a2 a3 M) : gs (FX99_add_4 fN k4 a0 a1 a2 a3 M) (GX99_add_4 a0 a1 a2 a3 M) (kX99_add k4) (pX99_add M) := by
  delta FX99_add_4 BX99_add_4
  refine gs_fi (fun c0_0 => ?_) (fun c0_0 => ?_)
  · exact And.intro rfl (And.intro (And.intro T.1 T.2) ((ext_r _)))
  · refine gs_c ⟨n_a0, (h.2 c0_0).1⟩ ?_
    refine gs_c ⟨n_a1, (h.2 c0_0).2.1⟩ ?_
    refine gs_c ⟨n_a0, (h.2 c0_0).2.2.1⟩ ?_
    exact And.intro rfl (And.intro (And.intro T.1 (tyb_s3 (t := 901) rfl T.2 n_a0)) ((ext_dI (ext_r _))))
noncomputable def GX99_add (a0 : Nat) (a1 : Nat) (M : FM) : FM := (FX99_add fN a0 a1 M).getD M
def HX99_add (a0 : Nat) (a1 : Nat) (M : FM) : Prop := ∃ r, FX99_add fN a0 a1 M = some r ∧ OkV M r
theorem gX99_add (a0 : Nat) (a1 : Nat) (M : FM) (h : HX99_add a0 a1 M) : gd (FX99_add fN a0 a1 M) (GX99_add a0 a1 M) (OkV M) := gd_op h
def kX99_subtract (k5 : Nat → Nat → Nat → Int32 → Int32 → FM → Option (FM)) : (Nat × Nat × Nat × Int32 × Int32 × FM) ⊕ (FM) → Option (FM)
  | .inl (v0, v1, v2, v3, v4, M') => k5 v0 v1 v2 v3 v4 M'
  | .inr (r) => some r
def pX99_subtract (M : FM) : (Nat × Nat × Nat × Int32 × Int32 × FM) ⊕ (FM) → Prop
  | .inl (_, _, _, _, _, M') => OkV M M'
  | .inr (r) => OkV M r
theorem pX99_subtract_t {M M1 : FM} (e : Ext M M1) : ∀ y, pX99_subtract M1 y → pX99_subtract M y
  | .inl (_, _, _, _, _, _), h => ⟨h.1, ext_tr e h.2⟩
  | .inr (r), h => ⟨h.1, ext_tr e h.2⟩
noncomputable def GX99_subtract_45 (a0 : Nat) (a1 : Nat) (a2 : Nat) (a4 : Int32) (s0 : Int32) (M : FM) : (Nat × Nat × Nat × Int32 × Int32 × FM) ⊕ (FM) :=
  let x1 : Int32 := a4 + (Int32.ofInt 1)
  (.inl (a0, a1, a2, s0, x1, M))
theorem gX99_subtract_45 (k5 : Nat → Nat → Nat → Int32 → Int32 → FM → Option (FM)) (a0 : Nat) (a1 : Nat) (a2 : Nat) (a4 : Int32) (s0 : Int32) (M : FM) (T : Ty M) : gs (FX99_subtract_45 fN k5 a0 a1 a2 a4 s0 M) (GX99_subtract_45 a0 a1 a2 a4 s0 M) (kX99_subtract k5) (pX99_subtract M) := by
  delta FX99_subtract_45 BX99_subtract_45
  exact And.intro rfl (And.intro (And.intro T.1 T.2) ((ext_r _)))
noncomputable def GX99_subtract_0 (a0 : Nat) (a1 : Nat) (a2 : Nat) (M : FM) : (Nat × Nat × Nat × Int32 × Int32 × FM) ⊕ (FM) :=
  (.inl (a0, a1, a2, (Int32.ofInt 0), (Int32.ofInt 0), M))
theorem gX99_subtract_0 (k5 : Nat → Nat → Nat → Int32 → Int32 → FM → Option (FM)) (a0 : Nat) (a1 : Nat) (a2 : Nat) (M : FM) (T : Ty M) : gs (FX99_subtract_0 fN k5 a0 a1 a2 M) (GX99_subtract_0 a0 a1 a2 M) (kX99_subtract k5) (pX99_subtract M) := by
  delta FX99_subtract_0 BX99_subtract_0
  exact And.intro rfl (And.intro (And.intro T.1 T.2) ((ext_r _)))
noncomputable def GX99_subtract_5 (a0 : Nat) (a1 : Nat) (a2 : Nat) (a3 : Int32) (a4 : Int32) (M : FM) : (Nat × Nat × Nat × Int32 × Int32 × FM) ⊕ (FM) :=
  fi ((Int32.ofInt 220) ≤ a4) (
    (.inr M)) (
    let x1 : Int32 := (((M.1 3 a0 a4.toNatClampNeg) - (M.1 3 a1 a4.toNatClampNeg)) - a3)
    let M2 : FM := fm_sI M 3 a2 a4.toNatClampNeg (x1 &&& (Int32.ofInt 65535))
    fi (0 ≤ x1) (
      GX99_subtract_45 a0 a1 a2 a4 (Int32.ofInt 0) M2) (
      GX99_subtract_45 a0 a1 a2 a4 (Int32.ofInt 1) M2))
def HX99_subtract_5 (a0 : Nat) (a1 : Nat) (a2 : Nat) (a3 : Int32) (a4 : Int32) (M : FM) : Prop := (((Int32.ofInt 220) ≤ a4 → True) ∧ (¬ ((Int32.ofInt 220) ≤ a4) → (fm_in M a0 a4 = true ∧ (fm_in M a1 a4 = true ∧ let x1 : Int32 := (((M.1 3 a0 a4.toNatClampNeg) - (M.1 3 a1 a4.toNatClampNeg)) - a3); (fm_in M a2 a4 = true ∧ True)))))
theorem gX99_subtract_5 (k5 : Nat → Nat → Nat → Int32 → Int32 → FM → Option (FM)) (a0 : Nat) (a1 : Nat) (a2 : Nat) (a3 : Int32) (a4 : Int32) (M : FM) (T : Ty M) (n_a0 : fm_is M 901 901 a0 = true) (n_a1 : fm_is M 901 901 a1 = true) (n_a2 : fm_is M 901 901 a2 = true) (h : HX99_subtract_5 a0 a1 a2 a3 a4 M) : gs (FX99_subtract_5 fN k5 a0 a1 a2 a3 a4 M) (GX99_subtract_5 a0 a1 a2 a3 a4 M) (kX99_subtract k5) (pX99_subtract M) := by
  delta FX99_subtract_5 BX99_subtract_5
  refine gs_fi (fun c0_0 => ?_) (fun c0_0 => ?_)
  · exact And.intro rfl (And.intro (And.intro T.1 T.2) ((ext_r _)))
  · refine gs_c ⟨n_a0, (h.2 c0_0).1⟩ ?_
    refine gs_c ⟨n_a1, (h.2 c0_0).2.1⟩ ?_
    refine gs_c ⟨n_a2, (h.2 c0_0).2.2.1⟩ ?_
    refine gs_fi (fun c1_0 => ?_) (fun c1_0 => ?_)
    · exact gs_t (pX99_subtract_t (ext_dI (ext_r _))) (gX99_subtract_45 k5 _ _ _ _ _ _ ⟨T.1, (tyb_s3 (t := 901) rfl T.2 n_a2)⟩  )
    · exact gs_t (pX99_subtract_t (ext_dI (ext_r _))) (gX99_subtract_45 k5 _ _ _ _ _ _ ⟨T.1, (tyb_s3 (t := 901) rfl T.2 n_a2)⟩  )
noncomputable def GX99_subtract (a0 : Nat) (a1 : Nat) (a2 : Nat) (M : FM) : FM := (FX99_subtract fN a0 a1 a2 M).getD M
def HX99_subtract (a0 : Nat) (a1 : Nat) (a2 : Nat) (M : FM) : Prop := ∃ r, FX99_subtract fN a0 a1 a2 M = some r ∧ OkV M r
theorem gX99_subtract (a0 : Nat) (a1 : Nat) (a2 : Nat) (M : FM) (h : HX99_subtract a0 a1 a2 M) : gd (FX99_subtract fN a0 a1 a2 M) (GX99_subtract a0 a1 a2 M) (OkV M) := gd_op h
def kX99_roundTo (k16 : Nat → Int32 → Int32 → Int32 → FM → Option (FM)) (k80 : Nat → Int32 → Int32 → Int32 → Int32 → Int32 → FM → Option (FM)) : (Nat × Int32 × Int32 × Int32 × FM) ⊕ (Nat × Int32 × Int32 × Int32 × Int32 × Int32 × FM) ⊕ (FM) → Option (FM)
  | .inl (v0, v1, v2, v3, M') => k16 v0 v1 v2 v3 M'
  | .inr (.inl (v0, v1, v2, v3, v4, v5, M')) => k80 v0 v1 v2 v3 v4 v5 M'
  | .inr (.inr (r)) => some r
def pX99_roundTo (M : FM) : (Nat × Int32 × Int32 × Int32 × FM) ⊕ (Nat × Int32 × Int32 × Int32 × Int32 × Int32 × FM) ⊕ (FM) → Prop
  | .inl (_, _, _, _, M') => OkV M M'
  | .inr (.inl (_, _, _, _, _, _, M')) => OkV M M'
  | .inr (.inr (r)) => OkV M r
theorem pX99_roundTo_t {M M1 : FM} (e : Ext M M1) : ∀ y, pX99_roundTo M1 y → pX99_roundTo M y
  | .inl (_, _, _, _, _), h => ⟨h.1, ext_tr e h.2⟩
  | .inr (.inl (_, _, _, _, _, _, _)), h => ⟨h.1, ext_tr e h.2⟩
  | .inr (.inr (r)), h => ⟨h.1, ext_tr e h.2⟩
noncomputable def GX99_roundTo_271 (s0 : Nat) (s1 : Int64) (M : FM) : (Nat × Int32 × Int32 × Int32 × FM) ⊕ (Nat × Int32 × Int32 × Int32 × Int32 × Int32 × FM) ⊕ (FM) :=
  let M1 : FM := fm_sL M 384 s0 0 s1
  (.inr (.inr M1))
theorem gX99_roundTo_271 (k16 : Nat → Int32 → Int32 → Int32 → FM → Option (FM)) (k80 : Nat → Int32 → Int32 → Int32 → Int32 → Int32 → FM → Option (FM)) (s0 : Nat) (s1 : Int64) (M : FM) (T : Ty M) (n_s0 : fm_is M 96 96 s0 = true) : gs (FX99_roundTo_271 fN k16 k80 s0 s1 M) (GX99_roundTo_271 s0 s1 M) (kX99_roundTo k16 k80) (pX99_roundTo M) := by
  delta FX99_roundTo_271 BX99_roundTo_271
  refine gs_c n_s0 ?_
  exact And.intro rfl (And.intro (And.intro T.1 T.2) ((ext_dL (ext_r _))))
noncomputable def GX99_roundTo_250 (a0 : Nat) (s0 : Int32) (M : FM) : (Nat × Int32 × Int32 × Int32 × FM) ⊕ (Nat × Int32 × Int32 × Int32 × Int32 × Int32 × FM) ⊕ (FM) :=
  fi (s0 = 0) (
    GX99_roundTo_271 a0 (M.2.1 384 a0 0) M) (
    GX99_roundTo_271 a0 ((M.2.1 384 a0 0) + (Int64.ofInt 1)) M)
theorem gX99_roundTo_250 (k16 : Nat → Int32 → Int32 → Int32 → FM → Option (FM)) (k80 : Nat → Int32 → Int32 → Int32 → Int32 → Int32 → FM → Option (FM)) (a0 : Nat) (s0 : Int32) (M : FM) (T : Ty M) (n_a0 : fm_is M 96 96 a0 = true) : gs (FX99_roundTo_250 fN k16 k80 a0 s0 M) (GX99_roundTo_250 a0 s0 M) (kX99_roundTo k16 k80) (pX99_roundTo M) := by
  delta FX99_roundTo_250 BX99_roundTo_250
  refine gs_fi (fun c0_0 => ?_) (fun c0_0 => ?_)
  · refine gs_c n_a0 ?_
    exact gs_t (pX99_roundTo_t (ext_r _)) (gX99_roundTo_271 k16 k80 _ _ _ ⟨T.1, T.2⟩ n_a0 )
  · refine gs_c n_a0 ?_
    exact gs_t (pX99_roundTo_t (ext_r _)) (gX99_roundTo_271 k16 k80 _ _ _ ⟨T.1, T.2⟩ n_a0 )
noncomputable def GX99_roundTo_249 (a0 : Nat) (M : FM) : (Nat × Int32 × Int32 × Int32 × FM) ⊕ (Nat × Int32 × Int32 × Int32 × Int32 × Int32 × FM) ⊕ (FM) :=
  GX99_roundTo_250 a0 (Int32.ofInt 0) M
theorem gX99_roundTo_249 (k16 : Nat → Int32 → Int32 → Int32 → FM → Option (FM)) (k80 : Nat → Int32 → Int32 → Int32 → Int32 → Int32 → FM → Option (FM)) (a0 : Nat) (M : FM) (T : Ty M) (n_a0 : fm_is M 96 96 a0 = true) : gs (FX99_roundTo_249 fN k16 k80 a0 M) (GX99_roundTo_249 a0 M) (kX99_roundTo k16 k80) (pX99_roundTo M) := by
  delta FX99_roundTo_249 BX99_roundTo_249
  exact gs_t (pX99_roundTo_t (ext_r _)) (gX99_roundTo_250 k16 k80 _ _ _ ⟨T.1, T.2⟩ n_a0 )
noncomputable def GX99_roundTo_231 (a0 : Nat) (M : FM) : (Nat × Int32 × Int32 × Int32 × FM) ⊕ (Nat × Int32 × Int32 × Int32 × Int32 × Int32 × FM) ⊕ (FM) :=
  GX99_roundTo_250 a0 (Int32.ofInt 0) M
theorem gX99_roundTo_231 (k16 : Nat → Int32 → Int32 → Int32 → FM → Option (FM)) (k80 : Nat → Int32 → Int32 → Int32 → Int32 → Int32 → FM → Option (FM)) (a0 : Nat) (M : FM) (T : Ty M) (n_a0 : fm_is M 96 96 a0 = true) : gs (FX99_roundTo_231 fN k16 k80 a0 M) (GX99_roundTo_231 a0 M) (kX99_roundTo k16 k80) (pX99_roundTo M) := by
  delta FX99_roundTo_231 BX99_roundTo_231
  exact gs_t (pX99_roundTo_t (ext_r _)) (gX99_roundTo_250 k16 k80 _ _ _ ⟨T.1, T.2⟩ n_a0 )
noncomputable def GX99_roundTo_204 (a0 : Nat) (M : FM) : (Nat × Int32 × Int32 × Int32 × FM) ⊕ (Nat × Int32 × Int32 × Int32 × Int32 × Int32 × FM) ⊕ (FM) :=
  GX99_roundTo_250 a0 (Int32.ofInt 0) M
theorem gX99_roundTo_204 (k16 : Nat → Int32 → Int32 → Int32 → FM → Option (FM)) (k80 : Nat → Int32 → Int32 → Int32 → Int32 → Int32 → FM → Option (FM)) (a0 : Nat) (M : FM) (T : Ty M) (n_a0 : fm_is M 96 96 a0 = true) : gs (FX99_roundTo_204 fN k16 k80 a0 M) (GX99_roundTo_204 a0 M) (kX99_roundTo k16 k80) (pX99_roundTo M) := by
  delta FX99_roundTo_204 BX99_roundTo_204
  exact gs_t (pX99_roundTo_t (ext_r _)) (gX99_roundTo_250 k16 k80 _ _ _ ⟨T.1, T.2⟩ n_a0 )
noncomputable def GX99_roundTo_176 (a0 : Nat) (M : FM) : (Nat × Int32 × Int32 × Int32 × FM) ⊕ (Nat × Int32 × Int32 × Int32 × Int32 × Int32 × FM) ⊕ (FM) :=
  GX99_roundTo_250 a0 (Int32.ofInt 0) M
theorem gX99_roundTo_176 (k16 : Nat → Int32 → Int32 → Int32 → FM → Option (FM)) (k80 : Nat → Int32 → Int32 → Int32 → Int32 → Int32 → FM → Option (FM)) (a0 : Nat) (M : FM) (T : Ty M) (n_a0 : fm_is M 96 96 a0 = true) : gs (FX99_roundTo_176 fN k16 k80 a0 M) (GX99_roundTo_176 a0 M) (kX99_roundTo k16 k80) (pX99_roundTo M) := by
  delta FX99_roundTo_176 BX99_roundTo_176
  exact gs_t (pX99_roundTo_t (ext_r _)) (gX99_roundTo_250 k16 k80 _ _ _ ⟨T.1, T.2⟩ n_a0 )
noncomputable def GX99_roundTo_172 (a0 : Nat) (M : FM) : (Nat × Int32 × Int32 × Int32 × FM) ⊕ (Nat × Int32 × Int32 × Int32 × Int32 × Int32 × FM) ⊕ (FM) :=
  GX99_roundTo_250 a0 (Int32.ofInt 1) M
theorem gX99_roundTo_172 (k16 : Nat → Int32 → Int32 → Int32 → FM → Option (FM)) (k80 : Nat → Int32 → Int32 → Int32 → Int32 → Int32 → FM → Option (FM)) (a0 : Nat) (M : FM) (T : Ty M) (n_a0 : fm_is M 96 96 a0 = true) : gs (FX99_roundTo_172 fN k16 k80 a0 M) (GX99_roundTo_172 a0 M) (kX99_roundTo k16 k80) (pX99_roundTo M) := by
  delta FX99_roundTo_172 BX99_roundTo_172
  exact gs_t (pX99_roundTo_t (ext_r _)) (gX99_roundTo_250 k16 k80 _ _ _ ⟨T.1, T.2⟩ n_a0 )
noncomputable def GX99_roundTo_142 (a0 : Nat) (a2 : Int32) (a4 : Int32) (a5 : Int32) (s0 : Nat) (s1 : Int32) (M : FM) : (Nat × Int32 × Int32 × Int32 × FM) ⊕ (Nat × Int32 × Int32 × Int32 × Int32 × Int32 × FM) ⊕ (FM) :=
  let M1 : FM := fm_sI M 385 s0 0 s1
  fi (a2 = 0) (
    fi (a4 = 0) (
      GX99_roundTo_176 a0 M1) (
      fi (a5 = 0) (
        let x2 : Int64 := (M1.2.1 384 a0 0)
        fi ((lg_cmp (x2 - x2 / (Int64.ofInt 2) * (Int64.ofInt 2)) (Int64.ofInt 0)) = 0) (
          GX99_roundTo_176 a0 M1) (
          GX99_roundTo_172 a0 M1)) (
        GX99_roundTo_172 a0 M1))) (
    fi (a2 = (Int32.ofInt 2)) (
      fi ((M1.1 385 a0 0) = 0) (
        GX99_roundTo_204 a0 M1) (
        fi ((M1.1 382 a0 0) = (Int32.ofInt 1)) (
          GX99_roundTo_250 a0 (Int32.ofInt 1) M1) (
          GX99_roundTo_204 a0 M1))) (
      fi (a2 = (Int32.ofInt 3)) (
        fi ((M1.1 385 a0 0) = 0) (
          GX99_roundTo_231 a0 M1) (
          fi ((M1.1 382 a0 0) = 0) (
            GX99_roundTo_250 a0 (Int32.ofInt 1) M1) (
            GX99_roundTo_231 a0 M1))) (
        fi (a2 = (Int32.ofInt 4)) (
          fi (a4 = 0) (
            GX99_roundTo_249 a0 M1) (
            GX99_roundTo_250 a0 (Int32.ofInt 1) M1)) (
          GX99_roundTo_249 a0 M1))))
theorem gX99_roundTo_142 (k16 : Nat → Int32 → Int32 → Int32 → FM → Option (FM)) (k80 : Nat → Int32 → Int32 → Int32 → Int32 → Int32 → FM → Option (FM)) (a0 : Nat) (a2 : Int32) (a4 : Int32) (a5 : Int32) (s0 : Nat) (s1 : Int32) (M : FM) (T : Ty M) (n_s0 : fm_is M 96 96 s0 = true) (z_s1 : s1 = 0 ∨ s1 = 1) (n_a0 : fm_is M 96 96 a0 = true) : gs (FX99_roundTo_142 fN k16 k80 a0 a2 a4 a5 s0 s1 M) (GX99_roundTo_142 a0 a2 a4 a5 s0 s1 M) (kX99_roundTo k16 k80) (pX99_roundTo M) := by
  delta FX99_roundTo_142 BX99_roundTo_142
  refine gs_c n_s0 ?_
  refine gs_c z_s1 ?_
  refine gs_fi (fun c0_0 => ?_) (fun c0_0 => ?_)
  · refine gs_fi (fun c1_0 => ?_) (fun c1_0 => ?_)
    · exact gs_t (pX99_roundTo_t (ext_dI (ext_r _))) (gX99_roundTo_176 k16 k80 _ _ ⟨T.1, (tyb_sIb (f := 385) rfl T.2 z_s1)⟩ n_a0 )
    · refine gs_fi (fun c2_0 => ?_) (fun c2_0 => ?_)
      · refine gs_c n_a0 ?_
        refine gs_n (by decide) ?_
        refine gs_fi (fun c3_0 => ?_) (fun c3_0 => ?_)
        · exact gs_t (pX99_roundTo_t (ext_dI (ext_r _))) (gX99_roundTo_176 k16 k80 _ _ ⟨T.1, (tyb_sIb (f := 385) rfl T.2 z_s1)⟩ n_a0 )
        · exact gs_t (pX99_roundTo_t (ext_dI (ext_r _))) (gX99_roundTo_172 k16 k80 _ _ ⟨T.1, (tyb_sIb (f := 385) rfl T.2 z_s1)⟩ n_a0 )
      · exact gs_t (pX99_roundTo_t (ext_dI (ext_r _))) (gX99_roundTo_172 k16 k80 _ _ ⟨T.1, (tyb_sIb (f := 385) rfl T.2 z_s1)⟩ n_a0 )
  · refine gs_fi (fun c4_0 => ?_) (fun c4_0 => ?_)
    · refine gs_c n_a0 ?_
      refine gs_fi (fun c5_0 => ?_) (fun c5_0 => ?_)
      · exact gs_t (pX99_roundTo_t (ext_dI (ext_r _))) (gX99_roundTo_204 k16 k80 _ _ ⟨T.1, (tyb_sIb (f := 385) rfl T.2 z_s1)⟩ n_a0 )
      · refine gs_c n_a0 ?_
        refine gs_fi (fun c6_0 => ?_) (fun c6_0 => ?_)
        · exact gs_t (pX99_roundTo_t (ext_dI (ext_r _))) (gX99_roundTo_250 k16 k80 _ _ _ ⟨T.1, (tyb_sIb (f := 385) rfl T.2 z_s1)⟩ n_a0 )
        · exact gs_t (pX99_roundTo_t (ext_dI (ext_r _))) (gX99_roundTo_204 k16 k80 _ _ ⟨T.1, (tyb_sIb (f := 385) rfl T.2 z_s1)⟩ n_a0 )
    · refine gs_fi (fun c7_0 => ?_) (fun c7_0 => ?_)
      · refine gs_c n_a0 ?_
        refine gs_fi (fun c8_0 => ?_) (fun c8_0 => ?_)
        · exact gs_t (pX99_roundTo_t (ext_dI (ext_r _))) (gX99_roundTo_231 k16 k80 _ _ ⟨T.1, (tyb_sIb (f := 385) rfl T.2 z_s1)⟩ n_a0 )
        · refine gs_c n_a0 ?_
          refine gs_fi (fun c9_0 => ?_) (fun c9_0 => ?_)
          · exact gs_t (pX99_roundTo_t (ext_dI (ext_r _))) (gX99_roundTo_250 k16 k80 _ _ _ ⟨T.1, (tyb_sIb (f := 385) rfl T.2 z_s1)⟩ n_a0 )
          · exact gs_t (pX99_roundTo_t (ext_dI (ext_r _))) (gX99_roundTo_231 k16 k80 _ _ ⟨T.1, (tyb_sIb (f := 385) rfl T.2 z_s1)⟩ n_a0 )
      · refine gs_fi (fun c10_0 => ?_) (fun c10_0 => ?_)
        · refine gs_fi (fun c11_0 => ?_) (fun c11_0 => ?_)
          · exact gs_t (pX99_roundTo_t (ext_dI (ext_r _))) (gX99_roundTo_249 k16 k80 _ _ ⟨T.1, (tyb_sIb (f := 385) rfl T.2 z_s1)⟩ n_a0 )
          · exact gs_t (pX99_roundTo_t (ext_dI (ext_r _))) (gX99_roundTo_250 k16 k80 _ _ _ ⟨T.1, (tyb_sIb (f := 385) rfl T.2 z_s1)⟩ n_a0 )
        · exact gs_t (pX99_roundTo_t (ext_dI (ext_r _))) (gX99_roundTo_249 k16 k80 _ _ ⟨T.1, (tyb_sIb (f := 385) rfl T.2 z_s1)⟩ n_a0 )
noncomputable def GX99_roundTo_137 (a0 : Nat) (a2 : Int32) (a4 : Int32) (a5 : Int32) (s0 : Nat) (M : FM) : (Nat × Int32 × Int32 × Int32 × FM) ⊕ (Nat × Int32 × Int32 × Int32 × Int32 × Int32 × FM) ⊕ (FM) :=
  GX99_roundTo_142 a0 a2 a4 a5 s0 (Int32.ofInt 1) M
theorem gX99_roundTo_137 (k16 : Nat → Int32 → Int32 → Int32 → FM → Option (FM)) (k80 : Nat → Int32 → Int32 → Int32 → Int32 → Int32 → FM → Option (FM)) (a0 : Nat) (a2 : Int32) (a4 : Int32) (a5 : Int32) (s0 : Nat) (M : FM) (T : Ty M) (n_s0 : fm_is M 96 96 s0 = true) (n_a0 : fm_is M 96 96 a0 = true) : gs (FX99_roundTo_137 fN k16 k80 a0 a2 a4 a5 s0 M) (GX99_roundTo_137 a0 a2 a4 a5 s0 M) (kX99_roundTo k16 k80) (pX99_roundTo M) := by
  delta FX99_roundTo_137 BX99_roundTo_137
  exact gs_t (pX99_roundTo_t (ext_r _)) (gX99_roundTo_142 k16 k80 _ _ _ _ _ _ _ ⟨T.1, T.2⟩ n_s0 fz_1 n_a0 )
noncomputable def GX99_roundTo_126 (a0 : Nat) (a2 : Int32) (a4 : Int32) (a5 : Int32) (M : FM) : (Nat × Int32 × Int32 × Int32 × FM) ⊕ (Nat × Int32 × Int32 × Int32 × Int32 × Int32 × FM) ⊕ (FM) :=
  fi (a4 = 0) (
    fi (a5 = 0) (
      GX99_roundTo_142 a0 a2 a4 a5 a0 (Int32.ofInt 0) M) (
      GX99_roundTo_137 a0 a2 a4 a5 a0 M)) (
    GX99_roundTo_137 a0 a2 a4 a5 a0 M)
theorem gX99_roundTo_126 (k16 : Nat → Int32 → Int32 → Int32 → FM → Option (FM)) (k80 : Nat → Int32 → Int32 → Int32 → Int32 → Int32 → FM → Option (FM)) (a0 : Nat) (a2 : Int32) (a4 : Int32) (a5 : Int32) (M : FM) (T : Ty M) (n_a0 : fm_is M 96 96 a0 = true) : gs (FX99_roundTo_126 fN k16 k80 a0 a2 a4 a5 M) (GX99_roundTo_126 a0 a2 a4 a5 M) (kX99_roundTo k16 k80) (pX99_roundTo M) := by
  delta FX99_roundTo_126 BX99_roundTo_126
  refine gs_fi (fun c0_0 => ?_) (fun c0_0 => ?_)
  · refine gs_fi (fun c1_0 => ?_) (fun c1_0 => ?_)
    · exact gs_t (pX99_roundTo_t (ext_r _)) (gX99_roundTo_142 k16 k80 _ _ _ _ _ _ _ ⟨T.1, T.2⟩ n_a0 fz_0 n_a0 )
    · exact gs_t (pX99_roundTo_t (ext_r _)) (gX99_roundTo_137 k16 k80 _ _ _ _ _ _ ⟨T.1, T.2⟩ n_a0 n_a0 )
  · exact gs_t (pX99_roundTo_t (ext_r _)) (gX99_roundTo_137 k16 k80 _ _ _ _ _ _ ⟨T.1, T.2⟩ n_a0 n_a0 )
noncomputable def GX99_roundTo_118 (a0 : Nat) (a2 : Int32) (a3 : Int32) (a4 : Int32) (a6 : Int32) (s0 : Int32) (M : FM) : (Nat × Int32 × Int32 × Int32 × FM) ⊕ (Nat × Int32 × Int32 × Int32 × Int32 × Int32 × FM) ⊕ (FM) :=
  let x1 : Int32 := a6 + (Int32.ofInt 1)
  (.inr (.inl (a0, a2, a3, a4, s0, x1, M)))
theorem gX99_roundTo_118 (k16 : Nat → Int32 → Int32 → Int32 → FM → Option (FM)) (k80 : Nat → Int32 → Int32 → Int32 → Int32 → Int32 → FM → Option (FM)) (a0 : Nat) (a2 : Int32) (a3 : Int32) (a4 : Int32) (a6 : Int32) (s0 : Int32) (M : FM) (T : Ty M) : gs (FX99_roundTo_118 fN k16 k80 a0 a2 a3 a4 a6 s0 M) (GX99_roundTo_118 a0 a2 a3 a4 a6 s0 M) (kX99_roundTo k16 k80) (pX99_roundTo M) := by
  delta FX99_roundTo_118 BX99_roundTo_118
  exact And.intro rfl (And.intro (And.intro T.1 T.2) ((ext_r _)))
noncomputable def GX99_roundTo_113 (a0 : Nat) (a2 : Int32) (a3 : Int32) (a4 : Int32) (a6 : Int32) (M : FM) : (Nat × Int32 × Int32 × Int32 × FM) ⊕ (Nat × Int32 × Int32 × Int32 × Int32 × Int32 × FM) ⊕ (FM) :=
  GX99_roundTo_118 a0 a2 a3 a4 a6 (Int32.ofInt 1) M
theorem gX99_roundTo_113 (k16 : Nat → Int32 → Int32 → Int32 → FM → Option (FM)) (k80 : Nat → Int32 → Int32 → Int32 → Int32 → Int32 → FM → Option (FM)) (a0 : Nat) (a2 : Int32) (a3 : Int32) (a4 : Int32) (a6 : Int32) (M : FM) (T : Ty M) : gs (FX99_roundTo_113 fN k16 k80 a0 a2 a3 a4 a6 M) (GX99_roundTo_113 a0 a2 a3 a4 a6 M) (kX99_roundTo k16 k80) (pX99_roundTo M) := by
  delta FX99_roundTo_113 BX99_roundTo_113
  exact gs_t (pX99_roundTo_t (ext_r _)) (gX99_roundTo_118 k16 k80 _ _ _ _ _ _ _ ⟨T.1, T.2⟩  )
noncomputable def GX99_roundTo_49 (a0 : Nat) (a2 : Int32) (a3 : Int32) (a4 : Int32) (s0 : Nat) (s1 : Int64) (s2 : Int64) (M : FM) : (Nat × Int32 × Int32 × Int32 × FM) ⊕ (Nat × Int32 × Int32 × Int32 × Int32 × Int32 × FM) ⊕ (FM) :=
  let M1 : FM := fm_sL M 384 s0 0 (s1 + s2)
  let x2 : Int32 := a4 + (Int32.ofInt (-1))
  (.inl (a0, a2, a3, x2, M1))
theorem gX99_roundTo_49 (k16 : Nat → Int32 → Int32 → Int32 → FM → Option (FM)) (k80 : Nat → Int32 → Int32 → Int32 → Int32 → Int32 → FM → Option (FM)) (a0 : Nat) (a2 : Int32) (a3 : Int32) (a4 : Int32) (s0 : Nat) (s1 : Int64) (s2 : Int64) (M : FM) (T : Ty M) (n_s0 : fm_is M 96 96 s0 = true) : gs (FX99_roundTo_49 fN k16 k80 a0 a2 a3 a4 s0 s1 s2 M) (GX99_roundTo_49 a0 a2 a3 a4 s0 s1 s2 M) (kX99_roundTo k16 k80) (pX99_roundTo M) := by
  delta FX99_roundTo_49 BX99_roundTo_49
  refine gs_c n_s0 ?_
  exact And.intro rfl (And.intro (And.intro T.1 T.2) ((ext_dL (ext_r _))))
noncomputable def GX99_roundTo_0 (a0 : Nat) (a1 : Int32) (a2 : Int32) (M : FM) : (Nat × Int32 × Int32 × Int32 × FM) ⊕ (Nat × Int32 × Int32 × Int32 × Int32 × Int32 × FM) ⊕ (FM) :=
  let x1 : Int32 := (a1 - (M.1 383 a0 0))
  let M2 : FM := fm_sL M 384 a0 0 (Int64.ofInt 0)
  (.inl (a0, a2, x1, (Int32.ofInt 63), M2))
theorem gX99_roundTo_0 (k16 : Nat → Int32 → Int32 → Int32 → FM → Option (FM)) (k80 : Nat → Int32 → Int32 → Int32 → Int32 → Int32 → FM → Option (FM)) (a0 : Nat) (a1 : Int32) (a2 : Int32) (M : FM) (T : Ty M) (n_a0 : fm_is M 96 96 a0 = true) : gs (FX99_roundTo_0 fN k16 k80 a0 a1 a2 M) (GX99_roundTo_0 a0 a1 a2 M) (kX99_roundTo k16 k80) (pX99_roundTo M) := by
  delta FX99_roundTo_0 BX99_roundTo_0
  refine gs_c n_a0 ?_
  refine gs_c n_a0 ?_
  exact And.intro rfl (And.intro (And.intro T.1 T.2) ((ext_dL (ext_r _))))
noncomputable def GX99_roundTo_80 (a0 : Nat) (a2 : Int32) (a3 : Int32) (a4 : Int32) (a5 : Int32) (a6 : Int32) (M : FM) : (Nat × Int32 × Int32 × Int32 × FM) ⊕ (Nat × Int32 × Int32 × Int32 × Int32 × Int32 × FM) ⊕ (FM) :=
  fi ((a3 - (Int32.ofInt 1)) ≤ a6) (
    GX99_roundTo_126 a0 a2 a4 a5 M) (
    fi ((Int32.ofInt 3520) ≤ a6) (
      GX99_roundTo_126 a0 a2 a4 a5 M) (
      fi (a5 = 0) (
        let r1 : Int32 × FM := GX99_bit (M.2.2 379 a0 0) a6 M
        fi (r1.1 = 0) (
          GX99_roundTo_118 a0 a2 a3 a4 a6 (Int32.ofInt 0) r1.2) (
          GX99_roundTo_113 a0 a2 a3 a4 a6 r1.2)) (
        GX99_roundTo_113 a0 a2 a3 a4 a6 M)))
def HX99_roundTo_80 (a0 : Nat) (a2 : Int32) (a3 : Int32) (a4 : Int32) (a5 : Int32) (a6 : Int32) (M : FM) : Prop := (((a3 - (Int32.ofInt 1)) ≤ a6 → True) ∧ (¬ ((a3 - (Int32.ofInt 1)) ≤ a6) → (((Int32.ofInt 3520) ≤ a6 → True) ∧ (¬ ((Int32.ofInt 3520) ≤ a6) → ((a5 = 0 → (HX99_bit (M.2.2 379 a0 0) a6 M ∧ True)) ∧ (¬ (a5 = 0) → True))))))
theorem gX99_roundTo_80 (k16 : Nat → Int32 → Int32 → Int32 → FM → Option (FM)) (k80 : Nat → Int32 → Int32 → Int32 → Int32 → Int32 → FM → Option (FM)) (a0 : Nat) (a2 : Int32) (a3 : Int32) (a4 : Int32) (a5 : Int32) (a6 : Int32) (M : FM) (T : Ty M) (n_a0 : fm_is M 96 96 a0 = true) (h : HX99_roundTo_80 a0 a2 a3 a4 a5 a6 M) : gs (FX99_roundTo_80 fN k16 k80 a0 a2 a3 a4 a5 a6 M) (GX99_roundTo_80 a0 a2 a3 a4 a5 a6 M) (kX99_roundTo k16 k80) (pX99_roundTo M) := by
  delta FX99_roundTo_80 BX99_roundTo_80
  refine gs_fi (fun c0_0 => ?_) (fun c0_0 => ?_)
  · exact gs_t (pX99_roundTo_t (ext_r _)) (gX99_roundTo_126 k16 k80 _ _ _ _ _ ⟨T.1, T.2⟩ n_a0 )
  · refine gs_fi (fun c1_0 => ?_) (fun c1_0 => ?_)
    · exact gs_t (pX99_roundTo_t (ext_r _)) (gX99_roundTo_126 k16 k80 _ _ _ _ _ ⟨T.1, T.2⟩ n_a0 )
    · refine gs_fi (fun c2_0 => ?_) (fun c2_0 => ?_)
      · refine gs_c n_a0 ?_
        have f5 := (tN_379 T.1 n_a0)
        refine gs_b (gX99_bit _ _ _ ⟨T.1, T.2⟩ f5 (((h.2 c0_0).2 c1_0).1 c2_0).1) (fun K3 => ?_)
        refine gs_fi (fun c4_0 => ?_) (fun c4_0 => ?_)
        · exact gs_t (pX99_roundTo_t K3.2.1) (gX99_roundTo_118 k16 k80 _ _ _ _ _ _ _ ⟨K3.1.1, K3.1.2⟩  )
        · exact gs_t (pX99_roundTo_t K3.2.1) (gX99_roundTo_113 k16 k80 _ _ _ _ _ _ ⟨K3.1.1, K3.1.2⟩  )
      · exact gs_t (pX99_roundTo_t (ext_r _)) (gX99_roundTo_113 k16 k80 _ _ _ _ _ _ ⟨T.1, T.2⟩  )
noncomputable def GX99_roundTo_16 (a0 : Nat) (a2 : Int32) (a3 : Int32) (a4 : Int32) (M : FM) : (Nat × Int32 × Int32 × Int32 × FM) ⊕ (Nat × Int32 × Int32 × Int32 × Int32 × Int32 × FM) ⊕ (FM) :=
  fi (a4 < 0) (
    let r1 : Int32 × FM := GX99_bit (M.2.2 379 a0 0) (a3 - (Int32.ofInt 1)) M
    let x2 : Int32 := (r1.2.1 381 a0 0)
    (.inr (.inl (a0, a2, a3, r1.1, x2, (Int32.ofInt 0), r1.2)))) (
    let r3 : Int32 × FM := GX99_bit (M.2.2 379 a0 0) (a4 + a3) M
    fi (r3.1 = 0) (
      GX99_roundTo_49 a0 a2 a3 a4 a0 ((Int64.ofInt 2) * (M.2.1 384 a0 0)) (Int64.ofInt 0) r3.2) (
      GX99_roundTo_49 a0 a2 a3 a4 a0 ((Int64.ofInt 2) * (M.2.1 384 a0 0)) (Int64.ofInt 1) r3.2))
def HX99_roundTo_16 (a0 : Nat) (a2 : Int32) (a3 : Int32) (a4 : Int32) (M : FM) : Prop := ((a4 < 0 → (HX99_bit (M.2.2 379 a0 0) (a3 - (Int32.ofInt 1)) M ∧ True)) ∧ (¬ (a4 < 0) → (HX99_bit (M.2.2 379 a0 0) (a4 + a3) M ∧ True)))
theorem gX99_roundTo_16 (k16 : Nat → Int32 → Int32 → Int32 → FM → Option (FM)) (k80 : Nat → Int32 → Int32 → Int32 → Int32 → Int32 → FM → Option (FM)) (a0 : Nat) (a2 : Int32) (a3 : Int32) (a4 : Int32) (M : FM) (T : Ty M) (n_a0 : fm_is M 96 96 a0 = true) (h : HX99_roundTo_16 a0 a2 a3 a4 M) : gs (FX99_roundTo_16 fN k16 k80 a0 a2 a3 a4 M) (GX99_roundTo_16 a0 a2 a3 a4 M) (kX99_roundTo k16 k80) (pX99_roundTo M) := by
  delta FX99_roundTo_16 BX99_roundTo_16
  refine gs_fi (fun c0_0 => ?_) (fun c0_0 => ?_)
  · refine gs_c n_a0 ?_
    have f3 := (tN_379 T.1 n_a0)
    refine gs_b (gX99_bit _ _ _ ⟨T.1, T.2⟩ f3 (h.1 c0_0).1) (fun K1 => ?_)
    have f2 := (ext_is K1.2.1 (Nat.zero_lt_succ _) n_a0)
    refine gs_c f2 ?_
    exact And.intro rfl (And.intro (And.intro K1.1.1 K1.1.2) K1.2.1)
  · refine gs_c n_a0 ?_
    refine gs_c n_a0 ?_
    have f8 := (tN_379 T.1 n_a0)
    refine gs_b (gX99_bit _ _ _ ⟨T.1, T.2⟩ f8 (h.2 c0_0).1) (fun K4 => ?_)
    refine gs_fi (fun c5_0 => ?_) (fun c5_0 => ?_)
    · have f6 := (ext_is K4.2.1 (Nat.zero_lt_succ _) n_a0)
      exact gs_t (pX99_roundTo_t K4.2.1) (gX99_roundTo_49 k16 k80 _ _ _ _ _ _ _ _ ⟨K4.1.1, K4.1.2⟩ f6 )
    · have f7 := (ext_is K4.2.1 (Nat.zero_lt_succ _) n_a0)
      exact gs_t (pX99_roundTo_t K4.2.1) (gX99_roundTo_49 k16 k80 _ _ _ _ _ _ _ _ ⟨K4.1.1, K4.1.2⟩ f7 )
noncomputable def GX99_roundTo (a0 : Nat) (a1 : Int32) (a2 : Int32) (M : FM) : FM := (FX99_roundTo fN a0 a1 a2 M).getD M
def HX99_roundTo (a0 : Nat) (a1 : Int32) (a2 : Int32) (M : FM) : Prop := ∃ r, FX99_roundTo fN a0 a1 a2 M = some r ∧ OkV M r
theorem gX99_roundTo (a0 : Nat) (a1 : Int32) (a2 : Int32) (M : FM) (h : HX99_roundTo a0 a1 a2 M) : gd (FX99_roundTo fN a0 a1 a2 M) (GX99_roundTo a0 a1 a2 M) (OkV M) := gd_op h
noncomputable def GX99_rounded_317 (s0 : Int64) (M : FM) : Int64 × FM :=
  (s0, M)
theorem gX99_rounded_317 (s0 : Int64) (M : FM) (T : Ty M) : gd (FX99_rounded_317 fN s0 M) (GX99_rounded_317 s0 M) (OkR M) := by
  delta FX99_rounded_317 BX99_rounded_317
  exact ⟨rfl, ⟨T.1, T.2⟩, (ext_r _)⟩
noncomputable def GX99_rounded_266 (a0 : Nat) (a1 : Int32) (a3 : Int32) (a6 : Int32) (a8 : Int32) (M : FM) : Int64 × FM :=
  fi (0 ≤ (lg_cmp (M.2.1 384 a0 0) ((Int64.ofInt 1) <<< (a3.toInt64 &&& 63)))) (
    let r1 : Int64 × FM := GX99_pack (M.1 382 a0 0) (((a8 - a6) + (Int32.ofInt 1)).toInt64) ((M.2.1 384 a0 0) - ((Int64.ofInt 1) <<< (a3.toInt64 &&& 63))) a1 M
    GX99_rounded_317 r1.1 r1.2) (
    let r2 : Int64 × FM := GX99_pack (M.1 382 a0 0) (Int64.ofInt 0) (M.2.1 384 a0 0) a1 M
    GX99_rounded_317 r2.1 r2.2)
theorem gX99_rounded_266 (a0 : Nat) (a1 : Int32) (a3 : Int32) (a6 : Int32) (a8 : Int32) (M : FM) (T : Ty M) (n_a0 : fm_is M 96 96 a0 = true) : gd (FX99_rounded_266 fN a0 a1 a3 a6 a8 M) (GX99_rounded_266 a0 a1 a3 a6 a8 M) (OkR M) := by
  delta FX99_rounded_266 BX99_rounded_266
  refine gd_c n_a0 ?_
  refine gd_fi (fun c0_0 => ?_) (fun c0_0 => ?_)
  · refine gd_c n_a0 ?_
    refine gd_c n_a0 ?_
    refine gd_b (gX99_pack _ _ _ _ _ ⟨T.1, T.2⟩  ) (fun K1 => ?_)
    exact gd_tR K1.2 (gX99_rounded_317 _ _ ⟨K1.1.1, K1.1.2⟩  )
  · refine gd_c n_a0 ?_
    refine gd_c n_a0 ?_
    refine gd_b (gX99_pack _ _ _ _ _ ⟨T.1, T.2⟩  ) (fun K2 => ?_)
    exact gd_tR K2.2 (gX99_rounded_317 _ _ ⟨K2.1.1, K2.1.2⟩  )
noncomputable def GX99_rounded_263 (a0 : Nat) (a1 : Int32) (a3 : Int32) (a6 : Int32) (a8 : Int32) (s0 : Nat) (s1 : Int32) (M : FM) : Int64 × FM :=
  let M1 : FM := GX99_raiseFlags s0 s1 M
  GX99_rounded_266 a0 a1 a3 a6 a8 M1
theorem gX99_rounded_263 (a0 : Nat) (a1 : Int32) (a3 : Int32) (a6 : Int32) (a8 : Int32) (s0 : Nat) (s1 : Int32) (M : FM) (T : Ty M) (n_s0 : fm_is M 96 96 s0 = true) (n_a0 : fm_is M 96 96 a0 = true) : gd (FX99_rounded_263 fN a0 a1 a3 a6 a8 s0 s1 M) (GX99_rounded_263 a0 a1 a3 a6 a8 s0 s1 M) (OkR M) := by
  delta FX99_rounded_263 BX99_rounded_263
  refine gd_c n_s0 ?_
  refine gd_b (gX99_raiseFlags _ _ _ ⟨T.1, T.2⟩ n_s0 ) (fun K0 => ?_)
  have f1 := (ext_is K0.2 (Nat.zero_lt_succ _) n_a0)
  exact gd_tR K0.2 (gX99_rounded_266 _ _ _ _ _ _ ⟨K0.1.1, K0.1.2⟩ f1 )
noncomputable def GX99_rounded_244 (s0 : Int64) (M : FM) : Int64 × FM :=
  (s0, M)
theorem gX99_rounded_244 (s0 : Int64) (M : FM) (T : Ty M) : gd (FX99_rounded_244 fN s0 M) (GX99_rounded_244 s0 M) (OkR M) := by
  delta FX99_rounded_244 BX99_rounded_244
  exact ⟨rfl, ⟨T.1, T.2⟩, (ext_r _)⟩
noncomputable def GX99_rounded_196 (a0 : Nat) (a1 : Int32) (a3 : Int32) (s0 : Int32) (M : FM) : Int64 × FM :=
  fi (s0 = 0) (
    let x1 : Nat := (M.2.2 374 a0 0)
    let r2 : Int64 × FM := GX99_pack (M.1 382 a0 0) (((M.1 3 x1 a1.toNatClampNeg) - (Int32.ofInt 1)).toInt64) (((Int64.ofInt 1) <<< (a3.toInt64 &&& 63)) - (Int64.ofInt 1)) a1 M
    GX99_rounded_244 r2.1 r2.2) (
    let x3 : Nat := (M.2.2 374 a0 0)
    let r4 : Int64 × FM := GX99_pack (M.1 382 a0 0) ((M.1 3 x3 a1.toNatClampNeg).toInt64) (Int64.ofInt 0) a1 M
    GX99_rounded_244 r4.1 r4.2)
def HX99_rounded_196 (a0 : Nat) (a1 : Int32) (a3 : Int32) (s0 : Int32) (M : FM) : Prop := ((s0 = 0 → let x1 : Nat := (M.2.2 374 a0 0); (fm_in M x1 a1 = true ∧ True)) ∧ (¬ (s0 = 0) → let x3 : Nat := (M.2.2 374 a0 0); (fm_in M x3 a1 = true ∧ True)))
theorem gX99_rounded_196 (a0 : Nat) (a1 : Int32) (a3 : Int32) (s0 : Int32) (M : FM) (T : Ty M) (n_a0 : fm_is M 96 96 a0 = true) (h : HX99_rounded_196 a0 a1 a3 s0 M) : gd (FX99_rounded_196 fN a0 a1 a3 s0 M) (GX99_rounded_196 a0 a1 a3 s0 M) (OkR M) := by
  delta FX99_rounded_196 BX99_rounded_196
  refine gd_fi (fun c0_0 => ?_) (fun c0_0 => ?_)
  · refine gd_c n_a0 ?_
    refine gd_c n_a0 ?_
    have f2 := (tN_374 T.1 n_a0)
    refine gd_c ⟨f2, (h.1 c0_0).1⟩ ?_
    refine gd_b (gX99_pack _ _ _ _ _ ⟨T.1, T.2⟩  ) (fun K1 => ?_)
    exact gd_tR K1.2 (gX99_rounded_244 _ _ ⟨K1.1.1, K1.1.2⟩  )
  · refine gd_c n_a0 ?_
    refine gd_c n_a0 ?_
    have f4 := (tN_374 T.1 n_a0)
    refine gd_c ⟨f4, (h.2 c0_0).1⟩ ?_
    refine gd_b (gX99_pack _ _ _ _ _ ⟨T.1, T.2⟩  ) (fun K3 => ?_)
    exact gd_tR K3.2 (gX99_rounded_244 _ _ ⟨K3.1.1, K3.1.2⟩  )
noncomputable def GX99_rounded_191 (a0 : Nat) (a1 : Int32) (a3 : Int32) (M : FM) : Int64 × FM :=
  GX99_rounded_196 a0 a1 a3 (Int32.ofInt 1) M
def HX99_rounded_191 (a0 : Nat) (a1 : Int32) (a3 : Int32) (M : FM) : Prop := HX99_rounded_196 a0 a1 a3 (Int32.ofInt 1) M
theorem gX99_rounded_191 (a0 : Nat) (a1 : Int32) (a3 : Int32) (M : FM) (T : Ty M) (n_a0 : fm_is M 96 96 a0 = true) (h : HX99_rounded_191 a0 a1 a3 M) : gd (FX99_rounded_191 fN a0 a1 a3 M) (GX99_rounded_191 a0 a1 a3 M) (OkR M) := by
  delta FX99_rounded_191 BX99_rounded_191
  exact gd_tR (ext_r _) (gX99_rounded_196 _ _ _ _ _ ⟨T.1, T.2⟩ n_a0 h)
noncomputable def GX99_rounded_188 (a0 : Nat) (a1 : Int32) (a3 : Int32) (s0 : Int32) (s1 : Int32) (M : FM) : Int64 × FM :=
  fi (s0 = s1) (
    GX99_rounded_191 a0 a1 a3 M) (
    GX99_rounded_196 a0 a1 a3 (Int32.ofInt 0) M)
def HX99_rounded_188 (a0 : Nat) (a1 : Int32) (a3 : Int32) (s0 : Int32) (s1 : Int32) (M : FM) : Prop := ((s0 = s1 → HX99_rounded_191 a0 a1 a3 M) ∧ (¬ (s0 = s1) → HX99_rounded_196 a0 a1 a3 (Int32.ofInt 0) M))
theorem gX99_rounded_188 (a0 : Nat) (a1 : Int32) (a3 : Int32) (s0 : Int32) (s1 : Int32) (M : FM) (T : Ty M) (n_a0 : fm_is M 96 96 a0 = true) (h : HX99_rounded_188 a0 a1 a3 s0 s1 M) : gd (FX99_rounded_188 fN a0 a1 a3 s0 s1 M) (GX99_rounded_188 a0 a1 a3 s0 s1 M) (OkR M) := by
  delta FX99_rounded_188 BX99_rounded_188
  refine gd_fi (fun c0_0 => ?_) (fun c0_0 => ?_)
  · exact gd_tR (ext_r _) (gX99_rounded_191 _ _ _ _ ⟨T.1, T.2⟩ n_a0 (h.1 c0_0))
  · exact gd_tR (ext_r _) (gX99_rounded_196 _ _ _ _ _ ⟨T.1, T.2⟩ n_a0 (h.2 c0_0))
noncomputable def GX99_rounded_151 (a0 : Nat) (a1 : Int32) (a2 : Int32) (a3 : Int32) (a4 : Int32) (a6 : Int32) (a7 : Int32) (a8 : Int32) (M : FM) : Int64 × FM :=
  fi ((a8 + a3) ≤ a4) (
    fi ((M.1 385 a0 0) = 0) (
      GX99_rounded_266 a0 a1 a3 a6 a8 M) (
      fi (a7 = 0) (
        GX99_rounded_263 a0 a1 a3 a6 a8 a0 (Int32.ofInt 1) M) (
        GX99_rounded_263 a0 a1 a3 a6 a8 a0 (Int32.ofInt 3) M))) (
    let M1 : FM := GX99_raiseFlags a0 (Int32.ofInt 5) M
    fi (a2 = 0) (
      GX99_rounded_191 a0 a1 a3 M1) (
      fi (a2 = (Int32.ofInt 4)) (
        GX99_rounded_191 a0 a1 a3 M1) (
        fi ((M1.1 382 a0 0) = (Int32.ofInt 1)) (
          GX99_rounded_188 a0 a1 a3 a2 (Int32.ofInt 2) M1) (
          GX99_rounded_188 a0 a1 a3 a2 (Int32.ofInt 3) M1))))
def HX99_rounded_151 (a0 : Nat) (a1 : Int32) (a2 : Int32) (a3 : Int32) (a4 : Int32) (a6 : Int32) (a7 : Int32) (a8 : Int32) (M : FM) : Prop := (((a8 + a3) ≤ a4 → True) ∧ (¬ ((a8 + a3) ≤ a4) → let M1 : FM := GX99_raiseFlags a0 (Int32.ofInt 5) M; ((a2 = 0 → HX99_rounded_191 a0 a1 a3 M1) ∧ (¬ (a2 = 0) → ((a2 = (Int32.ofInt 4) → HX99_rounded_191 a0 a1 a3 M1) ∧ (¬ (a2 = (Int32.ofInt 4)) → (((M1.1 382 a0 0) = (Int32.ofInt 1) → HX99_rounded_188 a0 a1 a3 a2 (Int32.ofInt 2) M1) ∧ (¬ ((M1.1 382 a0 0) = (Int32.ofInt 1)) → HX99_rounded_188 a0 a1 a3 a2 (Int32.ofInt 3) M1))))))))
theorem gX99_rounded_151 (a0 : Nat) (a1 : Int32) (a2 : Int32) (a3 : Int32) (a4 : Int32) (a6 : Int32) (a7 : Int32) (a8 : Int32) (M : FM) (T : Ty M) (n_a0 : fm_is M 96 96 a0 = true) (h : HX99_rounded_151 a0 a1 a2 a3 a4 a6 a7 a8 M) : gd (FX99_rounded_151 fN a0 a1 a2 a3 a4 a6 a7 a8 M) (GX99_rounded_151 a0 a1 a2 a3 a4 a6 a7 a8 M) (OkR M) := by
  delta FX99_rounded_151 BX99_rounded_151
  refine gd_fi (fun c0_0 => ?_) (fun c0_0 => ?_)
  · refine gd_c n_a0 ?_
    refine gd_fi (fun c1_0 => ?_) (fun c1_0 => ?_)
    · exact gd_tR (ext_r _) (gX99_rounded_266 _ _ _ _ _ _ ⟨T.1, T.2⟩ n_a0 )
    · refine gd_fi (fun c2_0 => ?_) (fun c2_0 => ?_)
      · exact gd_tR (ext_r _) (gX99_rounded_263 _ _ _ _ _ _ _ _ ⟨T.1, T.2⟩ n_a0 n_a0 )
      · exact gd_tR (ext_r _) (gX99_rounded_263 _ _ _ _ _ _ _ _ ⟨T.1, T.2⟩ n_a0 n_a0 )
  · refine gd_c n_a0 ?_
    refine gd_b (gX99_raiseFlags _ _ _ ⟨T.1, T.2⟩ n_a0 ) (fun K3 => ?_)
    refine gd_fi (fun c4_0 => ?_) (fun c4_0 => ?_)
    · have f5 := (ext_is K3.2 (Nat.zero_lt_succ _) n_a0)
      exact gd_tR K3.2 (gX99_rounded_191 _ _ _ _ ⟨K3.1.1, K3.1.2⟩ f5 ((h.2 c0_0).1 c4_0))
    · refine gd_fi (fun c6_0 => ?_) (fun c6_0 => ?_)
      · have f7 := (ext_is K3.2 (Nat.zero_lt_succ _) n_a0)
        exact gd_tR K3.2 (gX99_rounded_191 _ _ _ _ ⟨K3.1.1, K3.1.2⟩ f7 (((h.2 c0_0).2 c4_0).1 c6_0))
      · have f8 := (ext_is K3.2 (Nat.zero_lt_succ _) n_a0)
        refine gd_c f8 ?_
        refine gd_fi (fun c9_0 => ?_) (fun c9_0 => ?_)
        · have f10 := (ext_is K3.2 (Nat.zero_lt_succ _) n_a0)
          exact gd_tR K3.2 (gX99_rounded_188 _ _ _ _ _ _ ⟨K3.1.1, K3.1.2⟩ f10 ((((h.2 c0_0).2 c4_0).2 c6_0).1 c9_0))
        · have f11 := (ext_is K3.2 (Nat.zero_lt_succ _) n_a0)
          exact gd_tR K3.2 (gX99_rounded_188 _ _ _ _ _ _ ⟨K3.1.1, K3.1.2⟩ f11 ((((h.2 c0_0).2 c4_0).2 c6_0).2 c9_0))
noncomputable def GX99_rounded_126 (a0 : Nat) (a1 : Int32) (a2 : Int32) (a3 : Int32) (a4 : Int32) (a6 : Int32) (a7 : Int32) (s0 : Int32) (M : FM) : Int64 × FM :=
  fi ((lg_cmp (M.2.1 384 a0 0) ((Int64.ofInt 2) <<< (a3.toInt64 &&& 63))) = 0) (
    let M1 : FM := fm_sL M 384 a0 0 ((Int64.ofInt 1) <<< (a3.toInt64 &&& 63))
    let x2 : Int32 := s0 + (Int32.ofInt 1)
    GX99_rounded_151 a0 a1 a2 a3 a4 a6 a7 x2 M1) (
    GX99_rounded_151 a0 a1 a2 a3 a4 a6 a7 s0 M)
def HX99_rounded_126 (a0 : Nat) (a1 : Int32) (a2 : Int32) (a3 : Int32) (a4 : Int32) (a6 : Int32) (a7 : Int32) (s0 : Int32) (M : FM) : Prop := (((lg_cmp (M.2.1 384 a0 0) ((Int64.ofInt 2) <<< (a3.toInt64 &&& 63))) = 0 → let M1 : FM := fm_sL M 384 a0 0 ((Int64.ofInt 1) <<< (a3.toInt64 &&& 63)); let x2 : Int32 := s0 + (Int32.ofInt 1); HX99_rounded_151 a0 a1 a2 a3 a4 a6 a7 x2 M1) ∧ (¬ ((lg_cmp (M.2.1 384 a0 0) ((Int64.ofInt 2) <<< (a3.toInt64 &&& 63))) = 0) → HX99_rounded_151 a0 a1 a2 a3 a4 a6 a7 s0 M))
theorem gX99_rounded_126 (a0 : Nat) (a1 : Int32) (a2 : Int32) (a3 : Int32) (a4 : Int32) (a6 : Int32) (a7 : Int32) (s0 : Int32) (M : FM) (T : Ty M) (n_a0 : fm_is M 96 96 a0 = true) (h : HX99_rounded_126 a0 a1 a2 a3 a4 a6 a7 s0 M) : gd (FX99_rounded_126 fN a0 a1 a2 a3 a4 a6 a7 s0 M) (GX99_rounded_126 a0 a1 a2 a3 a4 a6 a7 s0 M) (OkR M) := by
  delta FX99_rounded_126 BX99_rounded_126
  refine gd_c n_a0 ?_
  refine gd_fi (fun c0_0 => ?_) (fun c0_0 => ?_)
  · refine gd_c n_a0 ?_
    exact gd_tR (ext_dL (ext_r _)) (gX99_rounded_151 _ _ _ _ _ _ _ _ _ ⟨T.1, T.2⟩ n_a0 (h.1 c0_0))
  · exact gd_tR (ext_r _) (gX99_rounded_151 _ _ _ _ _ _ _ _ _ ⟨T.1, T.2⟩ n_a0 (h.2 c0_0))
noncomputable def GX99_rounded_104 (a0 : Nat) (a1 : Int32) (a2 : Int32) (a3 : Int32) (a4 : Int32) (a5 : Int32) (a6 : Int32) (a7 : Int32) (s0 : Nat) (s1 : Int32) (M : FM) : Int64 × FM :=
  let M1 : FM := GX99_roundTo s0 s1 a2 M
  fi (a6 ≤ (a5 - a3)) (
    GX99_rounded_126 a0 a1 a2 a3 a4 a6 a7 (a5 - a3) M1) (
    GX99_rounded_126 a0 a1 a2 a3 a4 a6 a7 a6 M1)
def HX99_rounded_104 (a0 : Nat) (a1 : Int32) (a2 : Int32) (a3 : Int32) (a4 : Int32) (a5 : Int32) (a6 : Int32) (a7 : Int32) (s0 : Nat) (s1 : Int32) (M : FM) : Prop := (HX99_roundTo s0 s1 a2 M ∧ let M1 : FM := GX99_roundTo s0 s1 a2 M; ((a6 ≤ (a5 - a3) → HX99_rounded_126 a0 a1 a2 a3 a4 a6 a7 (a5 - a3) M1) ∧ (¬ (a6 ≤ (a5 - a3)) → HX99_rounded_126 a0 a1 a2 a3 a4 a6 a7 a6 M1)))
theorem gX99_rounded_104 (a0 : Nat) (a1 : Int32) (a2 : Int32) (a3 : Int32) (a4 : Int32) (a5 : Int32) (a6 : Int32) (a7 : Int32) (s0 : Nat) (s1 : Int32) (M : FM) (T : Ty M) (n_s0 : fm_is M 96 96 s0 = true) (n_a0 : fm_is M 96 96 a0 = true) (h : HX99_rounded_104 a0 a1 a2 a3 a4 a5 a6 a7 s0 s1 M) : gd (FX99_rounded_104 fN a0 a1 a2 a3 a4 a5 a6 a7 s0 s1 M) (GX99_rounded_104 a0 a1 a2 a3 a4 a5 a6 a7 s0 s1 M) (OkR M) := by
  delta FX99_rounded_104 BX99_rounded_104
  refine gd_c n_s0 ?_
  refine gd_b (gX99_roundTo _ _ _ _ h.1) (fun K0 => ?_)
  refine gd_fi (fun c1_0 => ?_) (fun c1_0 => ?_)
  · have f2 := (ext_is K0.2 (Nat.zero_lt_succ _) n_a0)
    exact gd_tR K0.2 (gX99_rounded_126 _ _ _ _ _ _ _ _ _ ⟨K0.1.1, K0.1.2⟩ f2 (h.2.1 c1_0))
  · have f3 := (ext_is K0.2 (Nat.zero_lt_succ _) n_a0)
    exact gd_tR K0.2 (gX99_rounded_126 _ _ _ _ _ _ _ _ _ ⟨K0.1.1, K0.1.2⟩ f3 (h.2.2 c1_0))
noncomputable def GX99_rounded_83 (a0 : Nat) (a1 : Int32) (a2 : Int32) (a3 : Int32) (a4 : Int32) (a5 : Int32) (a6 : Int32) (s0 : Int32) (M : FM) : Int64 × FM :=
  fi (a6 ≤ (a5 - a3)) (
    GX99_rounded_104 a0 a1 a2 a3 a4 a5 a6 s0 a0 (a5 - a3) M) (
    GX99_rounded_104 a0 a1 a2 a3 a4 a5 a6 s0 a0 a6 M)
def HX99_rounded_83 (a0 : Nat) (a1 : Int32) (a2 : Int32) (a3 : Int32) (a4 : Int32) (a5 : Int32) (a6 : Int32) (s0 : Int32) (M : FM) : Prop := ((a6 ≤ (a5 - a3) → HX99_rounded_104 a0 a1 a2 a3 a4 a5 a6 s0 a0 (a5 - a3) M) ∧ (¬ (a6 ≤ (a5 - a3)) → HX99_rounded_104 a0 a1 a2 a3 a4 a5 a6 s0 a0 a6 M))
theorem gX99_rounded_83 (a0 : Nat) (a1 : Int32) (a2 : Int32) (a3 : Int32) (a4 : Int32) (a5 : Int32) (a6 : Int32) (s0 : Int32) (M : FM) (T : Ty M) (n_a0 : fm_is M 96 96 a0 = true) (h : HX99_rounded_83 a0 a1 a2 a3 a4 a5 a6 s0 M) : gd (FX99_rounded_83 fN a0 a1 a2 a3 a4 a5 a6 s0 M) (GX99_rounded_83 a0 a1 a2 a3 a4 a5 a6 s0 M) (OkR M) := by
  delta FX99_rounded_83 BX99_rounded_83
  refine gd_fi (fun c0_0 => ?_) (fun c0_0 => ?_)
  · exact gd_tR (ext_r _) (gX99_rounded_104 _ _ _ _ _ _ _ _ _ _ _ ⟨T.1, T.2⟩ n_a0 n_a0 (h.1 c0_0))
  · exact gd_tR (ext_r _) (gX99_rounded_104 _ _ _ _ _ _ _ _ _ _ _ ⟨T.1, T.2⟩ n_a0 n_a0 (h.2 c0_0))
noncomputable def GX99_rounded_82 (a0 : Nat) (a1 : Int32) (a2 : Int32) (a3 : Int32) (a4 : Int32) (a5 : Int32) (a6 : Int32) (M : FM) : Int64 × FM :=
  GX99_rounded_83 a0 a1 a2 a3 a4 a5 a6 (Int32.ofInt 0) M
def HX99_rounded_82 (a0 : Nat) (a1 : Int32) (a2 : Int32) (a3 : Int32) (a4 : Int32) (a5 : Int32) (a6 : Int32) (M : FM) : Prop := HX99_rounded_83 a0 a1 a2 a3 a4 a5 a6 (Int32.ofInt 0) M
theorem gX99_rounded_82 (a0 : Nat) (a1 : Int32) (a2 : Int32) (a3 : Int32) (a4 : Int32) (a5 : Int32) (a6 : Int32) (M : FM) (T : Ty M) (n_a0 : fm_is M 96 96 a0 = true) (h : HX99_rounded_82 a0 a1 a2 a3 a4 a5 a6 M) : gd (FX99_rounded_82 fN a0 a1 a2 a3 a4 a5 a6 M) (GX99_rounded_82 a0 a1 a2 a3 a4 a5 a6 M) (OkR M) := by
  delta FX99_rounded_82 BX99_rounded_82
  exact gd_tR (ext_r _) (gX99_rounded_83 _ _ _ _ _ _ _ _ _ ⟨T.1, T.2⟩ n_a0 h)
noncomputable def GX99_rounded_78 (a0 : Nat) (a1 : Int32) (a2 : Int32) (a3 : Int32) (a4 : Int32) (a5 : Int32) (a6 : Int32) (M : FM) : Int64 × FM :=
  GX99_rounded_83 a0 a1 a2 a3 a4 a5 a6 (Int32.ofInt 1) M
def HX99_rounded_78 (a0 : Nat) (a1 : Int32) (a2 : Int32) (a3 : Int32) (a4 : Int32) (a5 : Int32) (a6 : Int32) (M : FM) : Prop := HX99_rounded_83 a0 a1 a2 a3 a4 a5 a6 (Int32.ofInt 1) M
theorem gX99_rounded_78 (a0 : Nat) (a1 : Int32) (a2 : Int32) (a3 : Int32) (a4 : Int32) (a5 : Int32) (a6 : Int32) (M : FM) (T : Ty M) (n_a0 : fm_is M 96 96 a0 = true) (h : HX99_rounded_78 a0 a1 a2 a3 a4 a5 a6 M) : gd (FX99_rounded_78 fN a0 a1 a2 a3 a4 a5 a6 M) (GX99_rounded_78 a0 a1 a2 a3 a4 a5 a6 M) (OkR M) := by
  delta FX99_rounded_78 BX99_rounded_78
  exact gd_tR (ext_r _) (gX99_rounded_83 _ _ _ _ _ _ _ _ _ ⟨T.1, T.2⟩ n_a0 h)
noncomputable def GX99_rounded_0 (a0 : Nat) (a1 : Int32) (a2 : Int32) (M : FM) : Int64 × FM :=
  let x1 : Nat := (M.2.2 372 a0 0)
  let x2 : Int32 := (M.1 3 x1 a1.toNatClampNeg)
  let x3 : Nat := (M.2.2 373 a0 0)
  let x4 : Int32 := (M.1 3 x3 a1.toNatClampNeg)
  let r5 : Int32 × FM := GX99_length (M.2.2 379 a0 0) M
  let x6 : Int32 := ((r5.1 - (Int32.ofInt 1)) + (r5.2.1 383 a0 0))
  let x7 : Int32 := (((Int32.ofInt 1) - x4) - x2)
  let M8 : FM := GX99_roundTo a0 (x6 - x2) a2 r5.2
  fi (((Int32.ofInt 1) - x4) ≤ x6) (
    GX99_rounded_82 a0 a1 a2 x2 x4 x6 x7 M8) (
    fi (x6 = (-x4)) (
      fi ((lg_cmp (M8.2.1 384 a0 0) ((Int64.ofInt 2) <<< (x2.toInt64 &&& 63))) = 0) (
        GX99_rounded_82 a0 a1 a2 x2 x4 x6 x7 M8) (
        GX99_rounded_78 a0 a1 a2 x2 x4 x6 x7 M8)) (
      GX99_rounded_78 a0 a1 a2 x2 x4 x6 x7 M8))
def HX99_rounded_0 (a0 : Nat) (a1 : Int32) (a2 : Int32) (M : FM) : Prop := let x1 : Nat := (M.2.2 372 a0 0); (fm_in M x1 a1 = true ∧ let x2 : Int32 := (M.1 3 x1 a1.toNatClampNeg); let x3 : Nat := (M.2.2 373 a0 0); (fm_in M x3 a1 = true ∧ let x4 : Int32 := (M.1 3 x3 a1.toNatClampNeg); (HX99_length (M.2.2 379 a0 0) M ∧ let r5 : Int32 × FM := GX99_length (M.2.2 379 a0 0) M; let x6 : Int32 := ((r5.1 - (Int32.ofInt 1)) + (r5.2.1 383 a0 0)); let x7 : Int32 := (((Int32.ofInt 1) - x4) - x2); (HX99_roundTo a0 (x6 - x2) a2 r5.2 ∧ let M8 : FM := GX99_roundTo a0 (x6 - x2) a2 r5.2; ((((Int32.ofInt 1) - x4) ≤ x6 → HX99_rounded_82 a0 a1 a2 x2 x4 x6 x7 M8) ∧ (¬ (((Int32.ofInt 1) - x4) ≤ x6) → ((x6 = (-x4) → (((lg_cmp (M8.2.1 384 a0 0) ((Int64.ofInt 2) <<< (x2.toInt64 &&& 63))) = 0 → HX99_rounded_82 a0 a1 a2 x2 x4 x6 x7 M8) ∧ (¬ ((lg_cmp (M8.2.1 384 a0 0) ((Int64.ofInt 2) <<< (x2.toInt64 &&& 63))) = 0) → HX99_rounded_78 a0 a1 a2 x2 x4 x6 x7 M8))) ∧ (¬ (x6 = (-x4)) → HX99_rounded_78 a0 a1 a2 x2 x4 x6 x7 M8))))))))
theorem gX99_rounded_0 (a0 : Nat) (a1 : Int32) (a2 : Int32) (M : FM) (T : Ty M) (n_a0 : fm_is M 96 96 a0 = true) (h : HX99_rounded_0 a0 a1 a2 M) : gd (FX99_rounded_0 fN a0 a1 a2 M) (GX99_rounded_0 a0 a1 a2 M) (OkR M) := by
  delta FX99_rounded_0 BX99_rounded_0
  refine gd_c n_a0 ?_
  have f13 := (tN_372 T.1 n_a0)
  refine gd_c ⟨f13, h.1⟩ ?_
  refine gd_c n_a0 ?_
  have f12 := (tN_373 T.1 n_a0)
  refine gd_c ⟨f12, h.2.1⟩ ?_
  refine gd_c n_a0 ?_
  refine gd_b (gX99_length _ _ h.2.2.1) (fun K0 => ?_)
  have f1 := (ext_is K0.2 (Nat.zero_lt_succ _) n_a0)
  refine gd_c f1 ?_
  have f2 := (ext_is K0.2 (Nat.zero_lt_succ _) n_a0)
  refine gd_c f2 ?_
  refine gd_b (gX99_roundTo _ _ _ _ h.2.2.2.1) (fun K3 => ?_)
  refine gd_fi (fun c4_0 => ?_) (fun c4_0 => ?_)
  · have f5 := (ext_is K3.2 (Nat.zero_lt_succ _) (ext_is K0.2 (Nat.zero_lt_succ _) n_a0))
    exact gd_tR (ext_tr K0.2 K3.2) (gX99_rounded_82 _ _ _ _ _ _ _ _ ⟨K3.1.1, K3.1.2⟩ f5 (h.2.2.2.2.1 c4_0))
  · refine gd_fi (fun c6_0 => ?_) (fun c6_0 => ?_)
    · have f7 := (ext_is K3.2 (Nat.zero_lt_succ _) (ext_is K0.2 (Nat.zero_lt_succ _) n_a0))
      refine gd_c f7 ?_
      refine gd_fi (fun c8_0 => ?_) (fun c8_0 => ?_)
      · have f9 := (ext_is K3.2 (Nat.zero_lt_succ _) (ext_is K0.2 (Nat.zero_lt_succ _) n_a0))
        exact gd_tR (ext_tr K0.2 K3.2) (gX99_rounded_82 _ _ _ _ _ _ _ _ ⟨K3.1.1, K3.1.2⟩ f9 (((h.2.2.2.2.2 c4_0).1 c6_0).1 c8_0))
      · have f10 := (ext_is K3.2 (Nat.zero_lt_succ _) (ext_is K0.2 (Nat.zero_lt_succ _) n_a0))
        exact gd_tR (ext_tr K0.2 K3.2) (gX99_rounded_78 _ _ _ _ _ _ _ _ ⟨K3.1.1, K3.1.2⟩ f10 (((h.2.2.2.2.2 c4_0).1 c6_0).2 c8_0))
    · have f11 := (ext_is K3.2 (Nat.zero_lt_succ _) (ext_is K0.2 (Nat.zero_lt_succ _) n_a0))
      exact gd_tR (ext_tr K0.2 K3.2) (gX99_rounded_78 _ _ _ _ _ _ _ _ ⟨K3.1.1, K3.1.2⟩ f11 ((h.2.2.2.2.2 c4_0).2 c6_0))
noncomputable def GX99_rounded (a0 : Nat) (a1 : Int32) (a2 : Int32) (M : FM) : Int64 × FM := GX99_rounded_0 a0 a1 a2 M
def HX99_rounded (a0 : Nat) (a1 : Int32) (a2 : Int32) (M : FM) : Prop := HX99_rounded_0 a0 a1 a2 M
theorem gX99_rounded (a0 : Nat) (a1 : Int32) (a2 : Int32) (M : FM) (T : Ty M) (n_a0 : fm_is M 96 96 a0 = true) (h : HX99_rounded a0 a1 a2 M) : gd (FX99_rounded fN a0 a1 a2 M) (GX99_rounded a0 a1 a2 M) (OkR M) := gX99_rounded_0 a0 a1 a2 M T n_a0 h
noncomputable def GX99_sum_252 (a0 : Nat) (a5 : Int32) (a6 : Int32) (M : FM) : Int64 × FM :=
  let r1 : Int64 × FM := GX99_rounded a0 a5 a6 M
  (r1.1, r1.2)
def HX99_sum_252 (a0 : Nat) (a5 : Int32) (a6 : Int32) (M : FM) : Prop := (HX99_rounded a0 a5 a6 M ∧ True)
theorem gX99_sum_252 (a0 : Nat) (a5 : Int32) (a6 : Int32) (M : FM) (T : Ty M) (n_a0 : fm_is M 96 96 a0 = true) (h : HX99_sum_252 a0 a5 a6 M) : gd (FX99_sum_252 fN a0 a5 a6 M) (GX99_sum_252 a0 a5 a6 M) (OkR M) := by
  delta FX99_sum_252 BX99_sum_252
  refine gd_c n_a0 ?_
  refine gd_b (gX99_rounded _ _ _ _ ⟨T.1, T.2⟩ n_a0 h.1) (fun K0 => ?_)
  exact ⟨rfl, ⟨K0.1.1, K0.1.2⟩, K0.2⟩
noncomputable def GX99_sum_192 (a0 : Nat) (a1 : Int32) (a3 : Int32) (a5 : Int32) (a6 : Int32) (a8 : Int32) (s0 : Nat) (s1 : Int32) (M : FM) : Int64 × FM :=
  let M1 : FM := fm_sI M 382 s0 0 s1
  fi (a1 = a3) (
    let M2 : FM := GX99_add (M1.2.2 379 a0 0) (M1.2.2 380 a0 0) M1
    GX99_sum_252 a0 a5 a6 M2) (
    fi (a8 ≤ 0) (
      let M3 : FM := GX99_subtract (M1.2.2 380 a0 0) (M1.2.2 379 a0 0) (M1.2.2 379 a0 0) M1
      GX99_sum_252 a0 a5 a6 M3) (
      let M4 : FM := GX99_subtract (M1.2.2 379 a0 0) (M1.2.2 380 a0 0) (M1.2.2 379 a0 0) M1
      GX99_sum_252 a0 a5 a6 M4))
def HX99_sum_192 (a0 : Nat) (a1 : Int32) (a3 : Int32) (a5 : Int32) (a6 : Int32) (a8 : Int32) (s0 : Nat) (s1 : Int32) (M : FM) : Prop := let M1 : FM := fm_sI M 382 s0 0 s1; ((a1 = a3 → (HX99_add (M1.2.2 379 a0 0) (M1.2.2 380 a0 0) M1 ∧ let M2 : FM := GX99_add (M1.2.2 379 a0 0) (M1.2.2 380 a0 0) M1; HX99_sum_252 a0 a5 a6 M2)) ∧ (¬ (a1 = a3) → ((a8 ≤ 0 → (HX99_subtract (M1.2.2 380 a0 0) (M1.2.2 379 a0 0) (M1.2.2 379 a0 0) M1 ∧ let M3 : FM := GX99_subtract (M1.2.2 380 a0 0) (M1.2.2 379 a0 0) (M1.2.2 379 a0 0) M1; HX99_sum_252 a0 a5 a6 M3)) ∧ (¬ (a8 ≤ 0) → (HX99_subtract (M1.2.2 379 a0 0) (M1.2.2 380 a0 0) (M1.2.2 379 a0 0) M1 ∧ let M4 : FM := GX99_subtract (M1.2.2 379 a0 0) (M1.2.2 380 a0 0) (M1.2.2 379 a0 0) M1; HX99_sum_252 a0 a5 a6 M4)))))
theorem gX99_sum_192 (a0 : Nat) (a1 : Int32) (a3 : Int32) (a5 : Int32) (a6 : Int32) (a8 : Int32) (s0 : Nat) (s1 : Int32) (M : FM) (T : Ty M) (n_s0 : fm_is M 96 96 s0 = true) (n_a0 : fm_is M 96 96 a0 = true) (h : HX99_sum_192 a0 a1 a3 a5 a6 a8 s0 s1 M) : gd (FX99_sum_192 fN a0 a1 a3 a5 a6 a8 s0 s1 M) (GX99_sum_192 a0 a1 a3 a5 a6 a8 s0 s1 M) (OkR M) := by
  delta FX99_sum_192 BX99_sum_192
  refine gd_c n_s0 ?_
  refine gd_fi (fun c0_0 => ?_) (fun c0_0 => ?_)
  · refine gd_c n_a0 ?_
    refine gd_c n_a0 ?_
    refine gd_b (gX99_add _ _ _ (h.1 c0_0).1) (fun K1 => ?_)
    have f2 := (ext_is K1.2 (Nat.zero_lt_succ _) n_a0)
    exact gd_tR (ext_dI K1.2) (gX99_sum_252 _ _ _ _ ⟨K1.1.1, K1.1.2⟩ f2 (h.1 c0_0).2)
  · refine gd_fi (fun c3_0 => ?_) (fun c3_0 => ?_)
    · refine gd_c n_a0 ?_
      refine gd_c n_a0 ?_
      refine gd_c n_a0 ?_
      refine gd_b (gX99_subtract _ _ _ _ ((h.2 c0_0).1 c3_0).1) (fun K4 => ?_)
      have f5 := (ext_is K4.2 (Nat.zero_lt_succ _) n_a0)
      exact gd_tR (ext_dI K4.2) (gX99_sum_252 _ _ _ _ ⟨K4.1.1, K4.1.2⟩ f5 ((h.2 c0_0).1 c3_0).2)
    · refine gd_c n_a0 ?_
      refine gd_c n_a0 ?_
      refine gd_c n_a0 ?_
      refine gd_b (gX99_subtract _ _ _ _ ((h.2 c0_0).2 c3_0).1) (fun K6 => ?_)
      have f7 := (ext_is K6.2 (Nat.zero_lt_succ _) n_a0)
      exact gd_tR (ext_dI K6.2) (gX99_sum_252 _ _ _ _ ⟨K6.1.1, K6.1.2⟩ f7 ((h.2 c0_0).2 c3_0).2)
noncomputable def GX99_sum_176 (a0 : Nat) (a1 : Int32) (a3 : Int32) (a5 : Int32) (a6 : Int32) (a8 : Int32) (M : FM) : Int64 × FM :=
  let M1 : FM := fm_sI M 381 a0 0 (Int32.ofInt 0)
  fi (0 ≤ a8) (
    GX99_sum_192 a0 a1 a3 a5 a6 a8 a0 a1 M1) (
    GX99_sum_192 a0 a1 a3 a5 a6 a8 a0 a3 M1)
def HX99_sum_176 (a0 : Nat) (a1 : Int32) (a3 : Int32) (a5 : Int32) (a6 : Int32) (a8 : Int32) (M : FM) : Prop := let M1 : FM := fm_sI M 381 a0 0 (Int32.ofInt 0); ((0 ≤ a8 → HX99_sum_192 a0 a1 a3 a5 a6 a8 a0 a1 M1) ∧ (¬ (0 ≤ a8) → HX99_sum_192 a0 a1 a3 a5 a6 a8 a0 a3 M1))
theorem gX99_sum_176 (a0 : Nat) (a1 : Int32) (a3 : Int32) (a5 : Int32) (a6 : Int32) (a8 : Int32) (M : FM) (T : Ty M) (n_a0 : fm_is M 96 96 a0 = true) (h : HX99_sum_176 a0 a1 a3 a5 a6 a8 M) : gd (FX99_sum_176 fN a0 a1 a3 a5 a6 a8 M) (GX99_sum_176 a0 a1 a3 a5 a6 a8 M) (OkR M) := by
  delta FX99_sum_176 BX99_sum_176
  refine gd_c n_a0 ?_
  refine gd_c fz_0 ?_
  refine gd_fi (fun c0_0 => ?_) (fun c0_0 => ?_)
  · exact gd_tR (ext_dI (ext_r _)) (gX99_sum_192 _ _ _ _ _ _ _ _ _ ⟨T.1, (tyb_sIb (f := 381) rfl T.2 fz_0)⟩ n_a0 n_a0 (h.1 c0_0))
  · exact gd_tR (ext_dI (ext_r _)) (gX99_sum_192 _ _ _ _ _ _ _ _ _ ⟨T.1, (tyb_sIb (f := 381) rfl T.2 fz_0)⟩ n_a0 n_a0 (h.2 c0_0))
noncomputable def GX99_sum_170 (a5 : Int32) (s0 : Nat) (s1 : Int32) (M : FM) : Int64 × FM :=
  let r1 : Int64 × FM := GX99_zero s0 s1 a5 M
  (r1.1, r1.2)
theorem gX99_sum_170 (a5 : Int32) (s0 : Nat) (s1 : Int32) (M : FM) (T : Ty M) (n_s0 : fm_is M 96 96 s0 = true) : gd (FX99_sum_170 fN a5 s0 s1 M) (GX99_sum_170 a5 s0 s1 M) (OkR M) := by
  delta FX99_sum_170 BX99_sum_170
  refine gd_c n_s0 ?_
  refine gd_b (gX99_zero _ _ _ _ ⟨T.1, T.2⟩  ) (fun K0 => ?_)
  exact ⟨rfl, ⟨K0.1.1, K0.1.2⟩, K0.2⟩
noncomputable def GX99_sum_135 (a0 : Nat) (a1 : Int32) (a3 : Int32) (a5 : Int32) (a6 : Int32) (M : FM) : Int64 × FM :=
  let r1 : Int32 × FM := GX99_compare (M.2.2 379 a0 0) (M.2.2 380 a0 0) M
  fi (a1 = a3) (
    GX99_sum_176 a0 a1 a3 a5 a6 r1.1 r1.2) (
    fi (r1.1 = 0) (
      fi (a6 = (Int32.ofInt 2)) (
        GX99_sum_170 a5 a0 (Int32.ofInt 1) r1.2) (
        GX99_sum_170 a5 a0 (Int32.ofInt 0) r1.2)) (
      GX99_sum_176 a0 a1 a3 a5 a6 r1.1 r1.2))
def HX99_sum_135 (a0 : Nat) (a1 : Int32) (a3 : Int32) (a5 : Int32) (a6 : Int32) (M : FM) : Prop := (HX99_compare (M.2.2 379 a0 0) (M.2.2 380 a0 0) M ∧ let r1 : Int32 × FM := GX99_compare (M.2.2 379 a0 0) (M.2.2 380 a0 0) M; ((a1 = a3 → HX99_sum_176 a0 a1 a3 a5 a6 r1.1 r1.2) ∧ (¬ (a1 = a3) → ((r1.1 = 0 → True) ∧ (¬ (r1.1 = 0) → HX99_sum_176 a0 a1 a3 a5 a6 r1.1 r1.2)))))
theorem gX99_sum_135 (a0 : Nat) (a1 : Int32) (a3 : Int32) (a5 : Int32) (a6 : Int32) (M : FM) (T : Ty M) (n_a0 : fm_is M 96 96 a0 = true) (h : HX99_sum_135 a0 a1 a3 a5 a6 M) : gd (FX99_sum_135 fN a0 a1 a3 a5 a6 M) (GX99_sum_135 a0 a1 a3 a5 a6 M) (OkR M) := by
  delta FX99_sum_135 BX99_sum_135
  refine gd_c n_a0 ?_
  refine gd_c n_a0 ?_
  refine gd_b (gX99_compare _ _ _ h.1) (fun K0 => ?_)
  refine gd_fi (fun c1_0 => ?_) (fun c1_0 => ?_)
  · have f2 := (ext_is K0.2 (Nat.zero_lt_succ _) n_a0)
    exact gd_tR K0.2 (gX99_sum_176 _ _ _ _ _ _ _ ⟨K0.1.1, K0.1.2⟩ f2 (h.2.1 c1_0))
  · refine gd_fi (fun c3_0 => ?_) (fun c3_0 => ?_)
    · refine gd_fi (fun c4_0 => ?_) (fun c4_0 => ?_)
      · have f5 := (ext_is K0.2 (Nat.zero_lt_succ _) n_a0)
        exact gd_tR K0.2 (gX99_sum_170 _ _ _ _ ⟨K0.1.1, K0.1.2⟩ f5 )
      · have f6 := (ext_is K0.2 (Nat.zero_lt_succ _) n_a0)
        exact gd_tR K0.2 (gX99_sum_170 _ _ _ _ ⟨K0.1.1, K0.1.2⟩ f6 )
    · have f7 := (ext_is K0.2 (Nat.zero_lt_succ _) n_a0)
      exact gd_tR K0.2 (gX99_sum_176 _ _ _ _ _ _ _ ⟨K0.1.1, K0.1.2⟩ f7 ((h.2.2 c1_0).2 c3_0))
noncomputable def GX99_sum_132 (a0 : Nat) (a1 : Int32) (a3 : Int32) (a5 : Int32) (a6 : Int32) (s0 : Nat) (s1 : Int32) (M : FM) : Int64 × FM :=
  let M1 : FM := fm_sI M 383 s0 0 s1
  GX99_sum_135 a0 a1 a3 a5 a6 M1
def HX99_sum_132 (a0 : Nat) (a1 : Int32) (a3 : Int32) (a5 : Int32) (a6 : Int32) (s0 : Nat) (s1 : Int32) (M : FM) : Prop := let M1 : FM := fm_sI M 383 s0 0 s1; HX99_sum_135 a0 a1 a3 a5 a6 M1
theorem gX99_sum_132 (a0 : Nat) (a1 : Int32) (a3 : Int32) (a5 : Int32) (a6 : Int32) (s0 : Nat) (s1 : Int32) (M : FM) (T : Ty M) (n_s0 : fm_is M 96 96 s0 = true) (n_a0 : fm_is M 96 96 a0 = true) (h : HX99_sum_132 a0 a1 a3 a5 a6 s0 s1 M) : gd (FX99_sum_132 fN a0 a1 a3 a5 a6 s0 s1 M) (GX99_sum_132 a0 a1 a3 a5 a6 s0 s1 M) (OkR M) := by
  delta FX99_sum_132 BX99_sum_132
  refine gd_c n_s0 ?_
  exact gd_tR (ext_dI (ext_r _)) (gX99_sum_135 _ _ _ _ _ _ ⟨T.1, (tyb_sI (f := 383) rfl T.2)⟩ n_a0 h)
noncomputable def GX99_sum_115 (a0 : Nat) (a1 : Int32) (a2 : Int32) (a3 : Int32) (a4 : Int32) (a5 : Int32) (a6 : Int32) (M : FM) : Int64 × FM :=
  let r1 : Int32 × FM := GX99_length (M.2.2 379 a0 0) M
  fi (r1.1 ≤ 0) (
    GX99_sum_132 a0 a1 a3 a5 a6 a0 a4 r1.2) (
    GX99_sum_132 a0 a1 a3 a5 a6 a0 a2 r1.2)
def HX99_sum_115 (a0 : Nat) (a1 : Int32) (a2 : Int32) (a3 : Int32) (a4 : Int32) (a5 : Int32) (a6 : Int32) (M : FM) : Prop := (HX99_length (M.2.2 379 a0 0) M ∧ let r1 : Int32 × FM := GX99_length (M.2.2 379 a0 0) M; ((r1.1 ≤ 0 → HX99_sum_132 a0 a1 a3 a5 a6 a0 a4 r1.2) ∧ (¬ (r1.1 ≤ 0) → HX99_sum_132 a0 a1 a3 a5 a6 a0 a2 r1.2)))
theorem gX99_sum_115 (a0 : Nat) (a1 : Int32) (a2 : Int32) (a3 : Int32) (a4 : Int32) (a5 : Int32) (a6 : Int32) (M : FM) (T : Ty M) (n_a0 : fm_is M 96 96 a0 = true) (h : HX99_sum_115 a0 a1 a2 a3 a4 a5 a6 M) : gd (FX99_sum_115 fN a0 a1 a2 a3 a4 a5 a6 M) (GX99_sum_115 a0 a1 a2 a3 a4 a5 a6 M) (OkR M) := by
  delta FX99_sum_115 BX99_sum_115
  refine gd_c n_a0 ?_
  refine gd_b (gX99_length _ _ h.1) (fun K0 => ?_)
  refine gd_fi (fun c1_0 => ?_) (fun c1_0 => ?_)
  · have f2 := (ext_is K0.2 (Nat.zero_lt_succ _) n_a0)
    have f3 := (ext_is K0.2 (Nat.zero_lt_succ _) n_a0)
    exact gd_tR K0.2 (gX99_sum_132 _ _ _ _ _ _ _ _ ⟨K0.1.1, K0.1.2⟩ f2 f3 (h.2.1 c1_0))
  · have f4 := (ext_is K0.2 (Nat.zero_lt_succ _) n_a0)
    have f5 := (ext_is K0.2 (Nat.zero_lt_succ _) n_a0)
    exact gd_tR K0.2 (gX99_sum_132 _ _ _ _ _ _ _ _ ⟨K0.1.1, K0.1.2⟩ f4 f5 (h.2.2 c1_0))
noncomputable def GX99_sum_82 (a0 : Nat) (a1 : Int32) (a2 : Int32) (a3 : Int32) (a4 : Int32) (a5 : Int32) (a6 : Int32) (s0 : Nat) (s1 : Int32) (M : FM) : Int64 × FM :=
  let M1 : FM := fm_sI M 383 s0 0 s1
  let M2 : FM := GX99_raise (M1.2.2 379 a0 0) (a2 - (M1.1 383 a0 0)) M1
  let M3 : FM := GX99_raise (M2.2.2 380 a0 0) (a4 - (M2.1 383 a0 0)) M2
  GX99_sum_135 a0 a1 a3 a5 a6 M3
def HX99_sum_82 (a0 : Nat) (a1 : Int32) (a2 : Int32) (a3 : Int32) (a4 : Int32) (a5 : Int32) (a6 : Int32) (s0 : Nat) (s1 : Int32) (M : FM) : Prop := let M1 : FM := fm_sI M 383 s0 0 s1; (HX99_raise (M1.2.2 379 a0 0) (a2 - (M1.1 383 a0 0)) M1 ∧ let M2 : FM := GX99_raise (M1.2.2 379 a0 0) (a2 - (M1.1 383 a0 0)) M1; (HX99_raise (M2.2.2 380 a0 0) (a4 - (M2.1 383 a0 0)) M2 ∧ let M3 : FM := GX99_raise (M2.2.2 380 a0 0) (a4 - (M2.1 383 a0 0)) M2; HX99_sum_135 a0 a1 a3 a5 a6 M3))
theorem gX99_sum_82 (a0 : Nat) (a1 : Int32) (a2 : Int32) (a3 : Int32) (a4 : Int32) (a5 : Int32) (a6 : Int32) (s0 : Nat) (s1 : Int32) (M : FM) (T : Ty M) (n_s0 : fm_is M 96 96 s0 = true) (n_a0 : fm_is M 96 96 a0 = true) (h : HX99_sum_82 a0 a1 a2 a3 a4 a5 a6 s0 s1 M) : gd (FX99_sum_82 fN a0 a1 a2 a3 a4 a5 a6 s0 s1 M) (GX99_sum_82 a0 a1 a2 a3 a4 a5 a6 s0 s1 M) (OkR M) := by
  delta FX99_sum_82 BX99_sum_82
  refine gd_c n_s0 ?_
  refine gd_c n_a0 ?_
  refine gd_c n_a0 ?_
  refine gd_b (gX99_raise _ _ _ h.1) (fun K0 => ?_)
  have f1 := (ext_is K0.2 (Nat.zero_lt_succ _) n_a0)
  refine gd_c f1 ?_
  have f2 := (ext_is K0.2 (Nat.zero_lt_succ _) n_a0)
  refine gd_c f2 ?_
  refine gd_b (gX99_raise _ _ _ h.2.1) (fun K3 => ?_)
  have f4 := (ext_is K3.2 (Nat.zero_lt_succ _) (ext_is K0.2 (Nat.zero_lt_succ _) n_a0))
  exact gd_tR (ext_dI (ext_tr K0.2 K3.2)) (gX99_sum_135 _ _ _ _ _ _ ⟨K3.1.1, K3.1.2⟩ f4 h.2.2)
noncomputable def GX99_sum_43 (a5 : Int32) (s0 : Nat) (s1 : Int32) (M : FM) : Int64 × FM :=
  let r1 : Int64 × FM := GX99_zero s0 s1 a5 M
  (r1.1, r1.2)
theorem gX99_sum_43 (a5 : Int32) (s0 : Nat) (s1 : Int32) (M : FM) (T : Ty M) (n_s0 : fm_is M 96 96 s0 = true) : gd (FX99_sum_43 fN a5 s0 s1 M) (GX99_sum_43 a5 s0 s1 M) (OkR M) := by
  delta FX99_sum_43 BX99_sum_43
  refine gd_c n_s0 ?_
  refine gd_b (gX99_zero _ _ _ _ ⟨T.1, T.2⟩  ) (fun K0 => ?_)
  exact ⟨rfl, ⟨K0.1.1, K0.1.2⟩, K0.2⟩
noncomputable def GX99_sum_0 (a0 : Nat) (a1 : Int32) (a2 : Int32) (a3 : Int32) (a4 : Int32) (a5 : Int32) (a6 : Int32) (M : FM) : Int64 × FM :=
  let r1 : Int32 × FM := GX99_length (M.2.2 379 a0 0) M
  let r2 : Int32 × FM := GX99_length (r1.2.2.2 380 a0 0) r1.2
  let x3 : Int32 := (r1.1 + r2.1)
  fi (x3 = 0) (
    fi (a1 = a3) (
      GX99_sum_43 a5 a0 a1 r2.2) (
      fi (a6 = (Int32.ofInt 2)) (
        GX99_sum_43 a5 a0 (Int32.ofInt 1) r2.2) (
        GX99_sum_43 a5 a0 (Int32.ofInt 0) r2.2))) (
    let r4 : Int32 × FM := GX99_length (r2.2.2.2 379 a0 0) r2.2
    fi (r4.1 ≤ 0) (
      GX99_sum_115 a0 a1 a2 a3 a4 a5 a6 r4.2) (
      let r5 : Int32 × FM := GX99_length (r4.2.2.2 380 a0 0) r4.2
      fi (r5.1 ≤ 0) (
        GX99_sum_115 a0 a1 a2 a3 a4 a5 a6 r5.2) (
        fi (a4 ≤ a2) (
          GX99_sum_82 a0 a1 a2 a3 a4 a5 a6 a0 a4 r5.2) (
          GX99_sum_82 a0 a1 a2 a3 a4 a5 a6 a0 a2 r5.2))))
def HX99_sum_0 (a0 : Nat) (a1 : Int32) (a2 : Int32) (a3 : Int32) (a4 : Int32) (a5 : Int32) (a6 : Int32) (M : FM) : Prop := (HX99_length (M.2.2 379 a0 0) M ∧ let r1 : Int32 × FM := GX99_length (M.2.2 379 a0 0) M; (HX99_length (r1.2.2.2 380 a0 0) r1.2 ∧ let r2 : Int32 × FM := GX99_length (r1.2.2.2 380 a0 0) r1.2; let x3 : Int32 := (r1.1 + r2.1); ((x3 = 0 → True) ∧ (¬ (x3 = 0) → (HX99_length (r2.2.2.2 379 a0 0) r2.2 ∧ let r4 : Int32 × FM := GX99_length (r2.2.2.2 379 a0 0) r2.2; ((r4.1 ≤ 0 → HX99_sum_115 a0 a1 a2 a3 a4 a5 a6 r4.2) ∧ (¬ (r4.1 ≤ 0) → (HX99_length (r4.2.2.2 380 a0 0) r4.2 ∧ let r5 : Int32 × FM := GX99_length (r4.2.2.2 380 a0 0) r4.2; ((r5.1 ≤ 0 → HX99_sum_115 a0 a1 a2 a3 a4 a5 a6 r5.2) ∧ (¬ (r5.1 ≤ 0) → ((a4 ≤ a2 → HX99_sum_82 a0 a1 a2 a3 a4 a5 a6 a0 a4 r5.2) ∧ (¬ (a4 ≤ a2) → HX99_sum_82 a0 a1 a2 a3 a4 a5 a6 a0 a2 r5.2))))))))))))
theorem gX99_sum_0 (a0 : Nat) (a1 : Int32) (a2 : Int32) (a3 : Int32) (a4 : Int32) (a5 : Int32) (a6 : Int32) (M : FM) (T : Ty M) (n_a0 : fm_is M 96 96 a0 = true) (h : HX99_sum_0 a0 a1 a2 a3 a4 a5 a6 M) : gd (FX99_sum_0 fN a0 a1 a2 a3 a4 a5 a6 M) (GX99_sum_0 a0 a1 a2 a3 a4 a5 a6 M) (OkR M) := by
  delta FX99_sum_0 BX99_sum_0
  refine gd_c n_a0 ?_
  refine gd_b (gX99_length _ _ h.1) (fun K0 => ?_)
  have f1 := (ext_is K0.2 (Nat.zero_lt_succ _) n_a0)
  refine gd_c f1 ?_
  refine gd_b (gX99_length _ _ h.2.1) (fun K2 => ?_)
  refine gd_fi (fun c3_0 => ?_) (fun c3_0 => ?_)
  · refine gd_fi (fun c4_0 => ?_) (fun c4_0 => ?_)
    · have f5 := (ext_is K2.2 (Nat.zero_lt_succ _) (ext_is K0.2 (Nat.zero_lt_succ _) n_a0))
      exact gd_tR (ext_tr K0.2 K2.2) (gX99_sum_43 _ _ _ _ ⟨K2.1.1, K2.1.2⟩ f5 )
    · refine gd_fi (fun c6_0 => ?_) (fun c6_0 => ?_)
      · have f7 := (ext_is K2.2 (Nat.zero_lt_succ _) (ext_is K0.2 (Nat.zero_lt_succ _) n_a0))
        exact gd_tR (ext_tr K0.2 K2.2) (gX99_sum_43 _ _ _ _ ⟨K2.1.1, K2.1.2⟩ f7 )
      · have f8 := (ext_is K2.2 (Nat.zero_lt_succ _) (ext_is K0.2 (Nat.zero_lt_succ _) n_a0))
        exact gd_tR (ext_tr K0.2 K2.2) (gX99_sum_43 _ _ _ _ ⟨K2.1.1, K2.1.2⟩ f8 )
  · have f9 := (ext_is K2.2 (Nat.zero_lt_succ _) (ext_is K0.2 (Nat.zero_lt_succ _) n_a0))
    refine gd_c f9 ?_
    refine gd_b (gX99_length _ _ (h.2.2.2 c3_0).1) (fun K10 => ?_)
    refine gd_fi (fun c11_0 => ?_) (fun c11_0 => ?_)
    · have f12 := (ext_is K10.2 (Nat.zero_lt_succ _) (ext_is K2.2 (Nat.zero_lt_succ _) (ext_is K0.2 (Nat.zero_lt_succ _) n_a0)))
      exact gd_tR (ext_tr K0.2 (ext_tr K2.2 K10.2)) (gX99_sum_115 _ _ _ _ _ _ _ _ ⟨K10.1.1, K10.1.2⟩ f12 ((h.2.2.2 c3_0).2.1 c11_0))
    · have f13 := (ext_is K10.2 (Nat.zero_lt_succ _) (ext_is K2.2 (Nat.zero_lt_succ _) (ext_is K0.2 (Nat.zero_lt_succ _) n_a0)))
      refine gd_c f13 ?_
      refine gd_b (gX99_length _ _ ((h.2.2.2 c3_0).2.2 c11_0).1) (fun K14 => ?_)
      refine gd_fi (fun c15_0 => ?_) (fun c15_0 => ?_)
      · have f16 := (ext_is K14.2 (Nat.zero_lt_succ _) (ext_is K10.2 (Nat.zero_lt_succ _) (ext_is K2.2 (Nat.zero_lt_succ _) (ext_is K0.2 (Nat.zero_lt_succ _) n_a0))))
        exact gd_tR (ext_tr K0.2 (ext_tr K2.2 (ext_tr K10.2 K14.2))) (gX99_sum_115 _ _ _ _ _ _ _ _ ⟨K14.1.1, K14.1.2⟩ f16 (((h.2.2.2 c3_0).2.2 c11_0).2.1 c15_0))
      · refine gd_fi (fun c17_0 => ?_) (fun c17_0 => ?_)
        · have f18 := (ext_is K14.2 (Nat.zero_lt_succ _) (ext_is K10.2 (Nat.zero_lt_succ _) (ext_is K2.2 (Nat.zero_lt_succ _) (ext_is K0.2 (Nat.zero_lt_succ _) n_a0))))
          have f19 := (ext_is K14.2 (Nat.zero_lt_succ _) (ext_is K10.2 (Nat.zero_lt_succ _) (ext_is K2.2 (Nat.zero_lt_succ _) (ext_is K0.2 (Nat.zero_lt_succ _) n_a0))))
          exact gd_tR (ext_tr K0.2 (ext_tr K2.2 (ext_tr K10.2 K14.2))) (gX99_sum_82 _ _ _ _ _ _ _ _ _ _ ⟨K14.1.1, K14.1.2⟩ f18 f19 ((((h.2.2.2 c3_0).2.2 c11_0).2.2 c15_0).1 c17_0))
        · have f20 := (ext_is K14.2 (Nat.zero_lt_succ _) (ext_is K10.2 (Nat.zero_lt_succ _) (ext_is K2.2 (Nat.zero_lt_succ _) (ext_is K0.2 (Nat.zero_lt_succ _) n_a0))))
          have f21 := (ext_is K14.2 (Nat.zero_lt_succ _) (ext_is K10.2 (Nat.zero_lt_succ _) (ext_is K2.2 (Nat.zero_lt_succ _) (ext_is K0.2 (Nat.zero_lt_succ _) n_a0))))
          exact gd_tR (ext_tr K0.2 (ext_tr K2.2 (ext_tr K10.2 K14.2))) (gX99_sum_82 _ _ _ _ _ _ _ _ _ _ ⟨K14.1.1, K14.1.2⟩ f20 f21 ((((h.2.2.2 c3_0).2.2 c11_0).2.2 c15_0).2 c17_0))
noncomputable def GX99_sum (a0 : Nat) (a1 : Int32) (a2 : Int32) (a3 : Int32) (a4 : Int32) (a5 : Int32) (a6 : Int32) (M : FM) : Int64 × FM := GX99_sum_0 a0 a1 a2 a3 a4 a5 a6 M
def HX99_sum (a0 : Nat) (a1 : Int32) (a2 : Int32) (a3 : Int32) (a4 : Int32) (a5 : Int32) (a6 : Int32) (M : FM) : Prop := HX99_sum_0 a0 a1 a2 a3 a4 a5 a6 M
theorem gX99_sum (a0 : Nat) (a1 : Int32) (a2 : Int32) (a3 : Int32) (a4 : Int32) (a5 : Int32) (a6 : Int32) (M : FM) (T : Ty M) (n_a0 : fm_is M 96 96 a0 = true) (h : HX99_sum a0 a1 a2 a3 a4 a5 a6 M) : gd (FX99_sum fN a0 a1 a2 a3 a4 a5 a6 M) (GX99_sum a0 a1 a2 a3 a4 a5 a6 M) (OkR M) := gX99_sum_0 a0 a1 a2 a3 a4 a5 a6 M T n_a0 h
noncomputable def GX99_fused_157 (a0 : Nat) (a3 : Int32) (a8 : Int32) (a9 : Int32) (a10 : Int32) (a11 : Int32) (M : FM) : Int64 × FM :=
  let r1 : Int64 × FM := GX99_infiniteSum a0 a10 a8 a11 a9 a3 M
  (r1.1, r1.2)
def HX99_fused_157 (a0 : Nat) (a3 : Int32) (a8 : Int32) (a9 : Int32) (a10 : Int32) (a11 : Int32) (M : FM) : Prop := (HX99_infiniteSum a0 a10 a8 a11 a9 a3 M ∧ True)
theorem gX99_fused_157 (a0 : Nat) (a3 : Int32) (a8 : Int32) (a9 : Int32) (a10 : Int32) (a11 : Int32) (M : FM) (T : Ty M) (n_a0 : fm_is M 96 96 a0 = true) (h : HX99_fused_157 a0 a3 a8 a9 a10 a11 M) : gd (FX99_fused_157 fN a0 a3 a8 a9 a10 a11 M) (GX99_fused_157 a0 a3 a8 a9 a10 a11 M) (OkR M) := by
  delta FX99_fused_157 BX99_fused_157
  refine gd_c n_a0 ?_
  refine gd_b (gX99_infiniteSum _ _ _ _ _ _ _ ⟨T.1, T.2⟩ n_a0 h.1) (fun K0 => ?_)
  exact ⟨rfl, ⟨K0.1.1, K0.1.2⟩, K0.2⟩
noncomputable def GX99_fused_145 (a0 : Nat) (a3 : Int32) (a4 : Int32) (a8 : Int32) (a9 : Int32) (a10 : Int32) (s0 : Int32) (M : FM) : Int64 × FM :=
  fi (a10 = 0) (
    fi (s0 = 0) (
      let x1 : Nat := (M.2.2 377 a0 0)
      let x2 : Nat := (M.2.2 377 a0 0)
      let M3 : FM := GX99_multiply (M.2.2 379 a0 0) (M.2.1 3 x1 (Int32.ofInt 0).toNatClampNeg) (M.2.1 3 x2 (Int32.ofInt 1).toNatClampNeg) M
      let x4 : Nat := (M3.2.2 377 a0 0)
      let M5 : FM := GX99_put (M3.2.2 380 a0 0) (M3.2.1 3 x4 (Int32.ofInt 2).toNatClampNeg) M3
      let x6 : Nat := (M5.2.2 378 a0 0)
      let x7 : Nat := (M5.2.2 378 a0 0)
      let x8 : Nat := (M5.2.2 378 a0 0)
      let r9 : Int64 × FM := GX99_sum a0 a8 ((M5.1 3 x6 (Int32.ofInt 0).toNatClampNeg) + (M5.1 3 x7 (Int32.ofInt 1).toNatClampNeg)) a9 (M5.1 3 x8 (Int32.ofInt 2).toNatClampNeg) a3 a4 M5
      (r9.1, r9.2)) (
      GX99_fused_157 a0 a3 a8 a9 a10 s0 M)) (
    GX99_fused_157 a0 a3 a8 a9 a10 s0 M)
def HX99_fused_145 (a0 : Nat) (a3 : Int32) (a4 : Int32) (a8 : Int32) (a9 : Int32) (a10 : Int32) (s0 : Int32) (M : FM) : Prop := ((a10 = 0 → ((s0 = 0 → let x1 : Nat := (M.2.2 377 a0 0); let x2 : Nat := (M.2.2 377 a0 0); (HX99_multiply (M.2.2 379 a0 0) (M.2.1 3 x1 (Int32.ofInt 0).toNatClampNeg) (M.2.1 3 x2 (Int32.ofInt 1).toNatClampNeg) M ∧ let M3 : FM := GX99_multiply (M.2.2 379 a0 0) (M.2.1 3 x1 (Int32.ofInt 0).toNatClampNeg) (M.2.1 3 x2 (Int32.ofInt 1).toNatClampNeg) M; let x4 : Nat := (M3.2.2 377 a0 0); (HX99_put (M3.2.2 380 a0 0) (M3.2.1 3 x4 (Int32.ofInt 2).toNatClampNeg) M3 ∧ let M5 : FM := GX99_put (M3.2.2 380 a0 0) (M3.2.1 3 x4 (Int32.ofInt 2).toNatClampNeg) M3; let x6 : Nat := (M5.2.2 378 a0 0); let x7 : Nat := (M5.2.2 378 a0 0); let x8 : Nat := (M5.2.2 378 a0 0); (HX99_sum a0 a8 ((M5.1 3 x6 (Int32.ofInt 0).toNatClampNeg) + (M5.1 3 x7 (Int32.ofInt 1).toNatClampNeg)) a9 (M5.1 3 x8 (Int32.ofInt 2).toNatClampNeg) a3 a4 M5 ∧ True)))) ∧ (¬ (s0 = 0) → HX99_fused_157 a0 a3 a8 a9 a10 s0 M))) ∧ (¬ (a10 = 0) → HX99_fused_157 a0 a3 a8 a9 a10 s0 M))
theorem gX99_fused_145 (a0 : Nat) (a3 : Int32) (a4 : Int32) (a8 : Int32) (a9 : Int32) (a10 : Int32) (s0 : Int32) (M : FM) (T : Ty M) (n_a0 : fm_is M 96 96 a0 = true) (h : HX99_fused_145 a0 a3 a4 a8 a9 a10 s0 M) : gd (FX99_fused_145 fN a0 a3 a4 a8 a9 a10 s0 M) (GX99_fused_145 a0 a3 a4 a8 a9 a10 s0 M) (OkR M) := by
  delta FX99_fused_145 BX99_fused_145
  refine gd_fi (fun c0_0 => ?_) (fun c0_0 => ?_)
  · refine gd_fi (fun c1_0 => ?_) (fun c1_0 => ?_)
    · refine gd_c n_a0 ?_
      refine gd_c n_a0 ?_
      have f22 := (tN_377 T.1 n_a0)
      have f23 := (fm_inl (i := (Int32.ofInt 0)) (tL_377 T.1 n_a0) (by decide))
      refine gd_c ⟨f22, f23⟩ ?_
      refine gd_c n_a0 ?_
      have f20 := (tN_377 T.1 n_a0)
      have f21 := (fm_inl (i := (Int32.ofInt 1)) (tL_377 T.1 n_a0) (by decide))
      refine gd_c ⟨f20, f21⟩ ?_
      refine gd_b (gX99_multiply _ _ _ _ ((h.1 c0_0).1 c1_0).1) (fun K2 => ?_)
      have f3 := (ext_is K2.2 (Nat.zero_lt_succ _) n_a0)
      refine gd_c f3 ?_
      have f4 := (ext_is K2.2 (Nat.zero_lt_succ _) n_a0)
      refine gd_c f4 ?_
      have f18 := (tN_377 K2.1.1 (ext_is K2.2 (Nat.zero_lt_succ _) n_a0))
      have f19 := (fm_inl (i := (Int32.ofInt 2)) (tL_377 K2.1.1 (ext_is K2.2 (Nat.zero_lt_succ _) n_a0)) (by decide))
      refine gd_c ⟨f18, f19⟩ ?_
      refine gd_b (gX99_put _ _ _ ((h.1 c0_0).1 c1_0).2.1) (fun K5 => ?_)
      have f6 := (ext_is K5.2 (Nat.zero_lt_succ _) (ext_is K2.2 (Nat.zero_lt_succ _) n_a0))
      refine gd_c f6 ?_
      have f16 := (tN_378 K5.1.1 (ext_is K5.2 (Nat.zero_lt_succ _) (ext_is K2.2 (Nat.zero_lt_succ _) n_a0)))
      have f17 := (fm_inl (i := (Int32.ofInt 0)) (tL_378 K5.1.1 (ext_is K5.2 (Nat.zero_lt_succ _) (ext_is K2.2 (Nat.zero_lt_succ _) n_a0))) (by decide))
      refine gd_c ⟨f16, f17⟩ ?_
      have f7 := (ext_is K5.2 (Nat.zero_lt_succ _) (ext_is K2.2 (Nat.zero_lt_succ _) n_a0))
      refine gd_c f7 ?_
      have f14 := (tN_378 K5.1.1 (ext_is K5.2 (Nat.zero_lt_succ _) (ext_is K2.2 (Nat.zero_lt_succ _) n_a0)))
      have f15 := (fm_inl (i := (Int32.ofInt 1)) (tL_378 K5.1.1 (ext_is K5.2 (Nat.zero_lt_succ _) (ext_is K2.2 (Nat.zero_lt_succ _) n_a0))) (by decide))
      refine gd_c ⟨f14, f15⟩ ?_
      have f8 := (ext_is K5.2 (Nat.zero_lt_succ _) (ext_is K2.2 (Nat.zero_lt_succ _) n_a0))
      refine gd_c f8 ?_
      have f12 := (tN_378 K5.1.1 (ext_is K5.2 (Nat.zero_lt_succ _) (ext_is K2.2 (Nat.zero_lt_succ _) n_a0)))
      have f13 := (fm_inl (i := (Int32.ofInt 2)) (tL_378 K5.1.1 (ext_is K5.2 (Nat.zero_lt_succ _) (ext_is K2.2 (Nat.zero_lt_succ _) n_a0))) (by decide))
      refine gd_c ⟨f12, f13⟩ ?_
      have f9 := (ext_is K5.2 (Nat.zero_lt_succ _) (ext_is K2.2 (Nat.zero_lt_succ _) n_a0))
      refine gd_c f9 ?_
      have f11 := (ext_is K5.2 (Nat.zero_lt_succ _) (ext_is K2.2 (Nat.zero_lt_succ _) n_a0))
      refine gd_b (gX99_sum _ _ _ _ _ _ _ _ ⟨K5.1.1, K5.1.2⟩ f11 ((h.1 c0_0).1 c1_0).2.2.1) (fun K10 => ?_)
      exact ⟨rfl, ⟨K10.1.1, K10.1.2⟩, (ext_tr K2.2 (ext_tr K5.2 K10.2))⟩
    · exact gd_tR (ext_r _) (gX99_fused_157 _ _ _ _ _ _ _ ⟨T.1, T.2⟩ n_a0 ((h.1 c0_0).2 c1_0))
  · exact gd_tR (ext_r _) (gX99_fused_157 _ _ _ _ _ _ _ ⟨T.1, T.2⟩ n_a0 (h.2 c0_0))
noncomputable def GX99_fused_128 (a0 : Nat) (a3 : Int32) (a4 : Int32) (a8 : Int32) (a9 : Int32) (s0 : Int32) (M : FM) : Int64 × FM :=
  let x1 : Nat := (M.2.2 375 a0 0)
  fi ((M.1 3 x1 (Int32.ofInt 2).toNatClampNeg) = (Int32.ofInt 2)) (
    GX99_fused_145 a0 a3 a4 a8 a9 s0 (Int32.ofInt 1) M) (
    GX99_fused_145 a0 a3 a4 a8 a9 s0 (Int32.ofInt 0) M)
def HX99_fused_128 (a0 : Nat) (a3 : Int32) (a4 : Int32) (a8 : Int32) (a9 : Int32) (s0 : Int32) (M : FM) : Prop := let x1 : Nat := (M.2.2 375 a0 0); (((M.1 3 x1 (Int32.ofInt 2).toNatClampNeg) = (Int32.ofInt 2) → HX99_fused_145 a0 a3 a4 a8 a9 s0 (Int32.ofInt 1) M) ∧ (¬ ((M.1 3 x1 (Int32.ofInt 2).toNatClampNeg) = (Int32.ofInt 2)) → HX99_fused_145 a0 a3 a4 a8 a9 s0 (Int32.ofInt 0) M))
theorem gX99_fused_128 (a0 : Nat) (a3 : Int32) (a4 : Int32) (a8 : Int32) (a9 : Int32) (s0 : Int32) (M : FM) (T : Ty M) (n_a0 : fm_is M 96 96 a0 = true) (h : HX99_fused_128 a0 a3 a4 a8 a9 s0 M) : gd (FX99_fused_128 fN a0 a3 a4 a8 a9 s0 M) (GX99_fused_128 a0 a3 a4 a8 a9 s0 M) (OkR M) := by
  delta FX99_fused_128 BX99_fused_128
  refine gd_c n_a0 ?_
  have f1 := (tN_375 T.1 n_a0)
  have f2 := (fm_inl (i := (Int32.ofInt 2)) (tL_375 T.1 n_a0) (by decide))
  refine gd_c ⟨f1, f2⟩ ?_
  refine gd_fi (fun c0_0 => ?_) (fun c0_0 => ?_)
  · exact gd_tR (ext_r _) (gX99_fused_145 _ _ _ _ _ _ _ _ ⟨T.1, T.2⟩ n_a0 (h.1 c0_0))
  · exact gd_tR (ext_r _) (gX99_fused_145 _ _ _ _ _ _ _ _ ⟨T.1, T.2⟩ n_a0 (h.2 c0_0))
noncomputable def GX99_fused_123 (a0 : Nat) (a3 : Int32) (a4 : Int32) (a8 : Int32) (a9 : Int32) (M : FM) : Int64 × FM :=
  GX99_fused_128 a0 a3 a4 a8 a9 (Int32.ofInt 1) M
def HX99_fused_123 (a0 : Nat) (a3 : Int32) (a4 : Int32) (a8 : Int32) (a9 : Int32) (M : FM) : Prop := HX99_fused_128 a0 a3 a4 a8 a9 (Int32.ofInt 1) M
theorem gX99_fused_123 (a0 : Nat) (a3 : Int32) (a4 : Int32) (a8 : Int32) (a9 : Int32) (M : FM) (T : Ty M) (n_a0 : fm_is M 96 96 a0 = true) (h : HX99_fused_123 a0 a3 a4 a8 a9 M) : gd (FX99_fused_123 fN a0 a3 a4 a8 a9 M) (GX99_fused_123 a0 a3 a4 a8 a9 M) (OkR M) := by
  delta FX99_fused_123 BX99_fused_123
  exact gd_tR (ext_r _) (gX99_fused_128 _ _ _ _ _ _ _ ⟨T.1, T.2⟩ n_a0 h)
noncomputable def GX99_fused_43 (a0 : Nat) (a1 : Int32) (a2 : Int32) (a3 : Int32) (a4 : Int32) (s0 : Int32) (M : FM) : Int64 × FM :=
  fi (s0 = 0) (
    let r1 : Int64 × FM := GX99_none a0 (Int32.ofInt 3) a3 M
    fi ((lg_cmp r1.1 (Int64.ofInt (-1))) = 0) (
      let x2 : Nat := (r1.2.2.2 376 a0 0)
      let x3 : Nat := (r1.2.2.2 376 a0 0)
      let x4 : Int32 := (((r1.2.1 3 x2 (Int32.ofInt 0).toNatClampNeg) ^^^ (r1.2.1 3 x3 (Int32.ofInt 1).toNatClampNeg)) ^^^ a1)
      let x5 : Nat := (r1.2.2.2 376 a0 0)
      let x6 : Int32 := ((r1.2.1 3 x5 (Int32.ofInt 2).toNatClampNeg) ^^^ a2)
      let x7 : Nat := (r1.2.2.2 375 a0 0)
      fi ((r1.2.1 3 x7 (Int32.ofInt 0).toNatClampNeg) = (Int32.ofInt 2)) (
        GX99_fused_123 a0 a3 a4 x4 x6 r1.2) (
        let x8 : Nat := (r1.2.2.2 375 a0 0)
        fi ((r1.2.1 3 x8 (Int32.ofInt 1).toNatClampNeg) = (Int32.ofInt 2)) (
          GX99_fused_123 a0 a3 a4 x4 x6 r1.2) (
          GX99_fused_128 a0 a3 a4 x4 x6 (Int32.ofInt 0) r1.2))) (
      (r1.1, r1.2))) (
    let r9 : Int64 × FM := GX99_invalid a0 a3 M
    (r9.1, r9.2))
def HX99_fused_43 (a0 : Nat) (a1 : Int32) (a2 : Int32) (a3 : Int32) (a4 : Int32) (s0 : Int32) (M : FM) : Prop := ((s0 = 0 → (HX99_none a0 (Int32.ofInt 3) a3 M ∧ let r1 : Int64 × FM := GX99_none a0 (Int32.ofInt 3) a3 M; (((lg_cmp r1.1 (Int64.ofInt (-1))) = 0 → let x2 : Nat := (r1.2.2.2 376 a0 0); let x3 : Nat := (r1.2.2.2 376 a0 0); let x4 : Int32 := (((r1.2.1 3 x2 (Int32.ofInt 0).toNatClampNeg) ^^^ (r1.2.1 3 x3 (Int32.ofInt 1).toNatClampNeg)) ^^^ a1); let x5 : Nat := (r1.2.2.2 376 a0 0); let x6 : Int32 := ((r1.2.1 3 x5 (Int32.ofInt 2).toNatClampNeg) ^^^ a2); let x7 : Nat := (r1.2.2.2 375 a0 0); (((r1.2.1 3 x7 (Int32.ofInt 0).toNatClampNeg) = (Int32.ofInt 2) → HX99_fused_123 a0 a3 a4 x4 x6 r1.2) ∧ (¬ ((r1.2.1 3 x7 (Int32.ofInt 0).toNatClampNeg) = (Int32.ofInt 2)) → let x8 : Nat := (r1.2.2.2 375 a0 0); (((r1.2.1 3 x8 (Int32.ofInt 1).toNatClampNeg) = (Int32.ofInt 2) → HX99_fused_123 a0 a3 a4 x4 x6 r1.2) ∧ (¬ ((r1.2.1 3 x8 (Int32.ofInt 1).toNatClampNeg) = (Int32.ofInt 2)) → HX99_fused_128 a0 a3 a4 x4 x6 (Int32.ofInt 0) r1.2))))) ∧ (¬ ((lg_cmp r1.1 (Int64.ofInt (-1))) = 0) → True)))) ∧ (¬ (s0 = 0) → True))
theorem gX99_fused_43 (a0 : Nat) (a1 : Int32) (a2 : Int32) (a3 : Int32) (a4 : Int32) (s0 : Int32) (M : FM) (T : Ty M) (n_a0 : fm_is M 96 96 a0 = true) (h : HX99_fused_43 a0 a1 a2 a3 a4 s0 M) : gd (FX99_fused_43 fN a0 a1 a2 a3 a4 s0 M) (GX99_fused_43 a0 a1 a2 a3 a4 s0 M) (OkR M) := by
  delta FX99_fused_43 BX99_fused_43
  refine gd_fi (fun c0_0 => ?_) (fun c0_0 => ?_)
  · refine gd_c n_a0 ?_
    refine gd_b (gX99_none _ _ _ _ (h.1 c0_0).1) (fun K1 => ?_)
    refine gd_fi (fun c2_0 => ?_) (fun c2_0 => ?_)
    · have f3 := (ext_is K1.2 (Nat.zero_lt_succ _) n_a0)
      refine gd_c f3 ?_
      have f21 := (tN_376 K1.1.1 (ext_is K1.2 (Nat.zero_lt_succ _) n_a0))
      have f22 := (fm_inl (i := (Int32.ofInt 0)) (tL_376 K1.1.1 (ext_is K1.2 (Nat.zero_lt_succ _) n_a0)) (by decide))
      refine gd_c ⟨f21, f22⟩ ?_
      have f4 := (ext_is K1.2 (Nat.zero_lt_succ _) n_a0)
      refine gd_c f4 ?_
      have f19 := (tN_376 K1.1.1 (ext_is K1.2 (Nat.zero_lt_succ _) n_a0))
      have f20 := (fm_inl (i := (Int32.ofInt 1)) (tL_376 K1.1.1 (ext_is K1.2 (Nat.zero_lt_succ _) n_a0)) (by decide))
      refine gd_c ⟨f19, f20⟩ ?_
      have f5 := (ext_is K1.2 (Nat.zero_lt_succ _) n_a0)
      refine gd_c f5 ?_
      have f17 := (tN_376 K1.1.1 (ext_is K1.2 (Nat.zero_lt_succ _) n_a0))
      have f18 := (fm_inl (i := (Int32.ofInt 2)) (tL_376 K1.1.1 (ext_is K1.2 (Nat.zero_lt_succ _) n_a0)) (by decide))
      refine gd_c ⟨f17, f18⟩ ?_
      have f6 := (ext_is K1.2 (Nat.zero_lt_succ _) n_a0)
      refine gd_c f6 ?_
      have f15 := (tN_375 K1.1.1 (ext_is K1.2 (Nat.zero_lt_succ _) n_a0))
      have f16 := (fm_inl (i := (Int32.ofInt 0)) (tL_375 K1.1.1 (ext_is K1.2 (Nat.zero_lt_succ _) n_a0)) (by decide))
      refine gd_c ⟨f15, f16⟩ ?_
      refine gd_fi (fun c7_0 => ?_) (fun c7_0 => ?_)
      · have f8 := (ext_is K1.2 (Nat.zero_lt_succ _) n_a0)
        exact gd_tR K1.2 (gX99_fused_123 _ _ _ _ _ _ ⟨K1.1.1, K1.1.2⟩ f8 (((h.1 c0_0).2.1 c2_0).1 c7_0))
      · have f9 := (ext_is K1.2 (Nat.zero_lt_succ _) n_a0)
        refine gd_c f9 ?_
        have f13 := (tN_375 K1.1.1 (ext_is K1.2 (Nat.zero_lt_succ _) n_a0))
        have f14 := (fm_inl (i := (Int32.ofInt 1)) (tL_375 K1.1.1 (ext_is K1.2 (Nat.zero_lt_succ _) n_a0)) (by decide))
        refine gd_c ⟨f13, f14⟩ ?_
        refine gd_fi (fun c10_0 => ?_) (fun c10_0 => ?_)
        · have f11 := (ext_is K1.2 (Nat.zero_lt_succ _) n_a0)
          exact gd_tR K1.2 (gX99_fused_123 _ _ _ _ _ _ ⟨K1.1.1, K1.1.2⟩ f11 ((((h.1 c0_0).2.1 c2_0).2 c7_0).1 c10_0))
        · have f12 := (ext_is K1.2 (Nat.zero_lt_succ _) n_a0)
          exact gd_tR K1.2 (gX99_fused_128 _ _ _ _ _ _ _ ⟨K1.1.1, K1.1.2⟩ f12 ((((h.1 c0_0).2.1 c2_0).2 c7_0).2 c10_0))
    · exact ⟨rfl, ⟨K1.1.1, K1.1.2⟩, K1.2⟩
  · refine gd_c n_a0 ?_
    refine gd_b (gX99_invalid _ _ _ ⟨T.1, T.2⟩ n_a0 ) (fun K23 => ?_)
    exact ⟨rfl, ⟨K23.1.1, K23.1.2⟩, K23.2⟩
noncomputable def GX99_fused_42 (a0 : Nat) (a1 : Int32) (a2 : Int32) (a3 : Int32) (a4 : Int32) (M : FM) : Int64 × FM :=
  GX99_fused_43 a0 a1 a2 a3 a4 (Int32.ofInt 0) M
def HX99_fused_42 (a0 : Nat) (a1 : Int32) (a2 : Int32) (a3 : Int32) (a4 : Int32) (M : FM) : Prop := HX99_fused_43 a0 a1 a2 a3 a4 (Int32.ofInt 0) M
theorem gX99_fused_42 (a0 : Nat) (a1 : Int32) (a2 : Int32) (a3 : Int32) (a4 : Int32) (M : FM) (T : Ty M) (n_a0 : fm_is M 96 96 a0 = true) (h : HX99_fused_42 a0 a1 a2 a3 a4 M) : gd (FX99_fused_42 fN a0 a1 a2 a3 a4 M) (GX99_fused_42 a0 a1 a2 a3 a4 M) (OkR M) := by
  delta FX99_fused_42 BX99_fused_42
  exact gd_tR (ext_r _) (gX99_fused_43 _ _ _ _ _ _ _ ⟨T.1, T.2⟩ n_a0 h)
noncomputable def GX99_fused_38 (a0 : Nat) (a1 : Int32) (a2 : Int32) (a3 : Int32) (a4 : Int32) (M : FM) : Int64 × FM :=
  GX99_fused_43 a0 a1 a2 a3 a4 (Int32.ofInt 1) M
def HX99_fused_38 (a0 : Nat) (a1 : Int32) (a2 : Int32) (a3 : Int32) (a4 : Int32) (M : FM) : Prop := HX99_fused_43 a0 a1 a2 a3 a4 (Int32.ofInt 1) M
theorem gX99_fused_38 (a0 : Nat) (a1 : Int32) (a2 : Int32) (a3 : Int32) (a4 : Int32) (M : FM) (T : Ty M) (n_a0 : fm_is M 96 96 a0 = true) (h : HX99_fused_38 a0 a1 a2 a3 a4 M) : gd (FX99_fused_38 fN a0 a1 a2 a3 a4 M) (GX99_fused_38 a0 a1 a2 a3 a4 M) (OkR M) := by
  delta FX99_fused_38 BX99_fused_38
  exact gd_tR (ext_r _) (gX99_fused_43 _ _ _ _ _ _ _ ⟨T.1, T.2⟩ n_a0 h)
noncomputable def GX99_fused_19 (a0 : Nat) (a1 : Int32) (a2 : Int32) (a3 : Int32) (a4 : Int32) (M : FM) : Int64 × FM :=
  let x1 : Nat := (M.2.2 375 a0 0)
  fi ((M.1 3 x1 (Int32.ofInt 0).toNatClampNeg) = 0) (
    let x2 : Nat := (M.2.2 375 a0 0)
    fi ((M.1 3 x2 (Int32.ofInt 1).toNatClampNeg) = (Int32.ofInt 2)) (
      GX99_fused_38 a0 a1 a2 a3 a4 M) (
      GX99_fused_42 a0 a1 a2 a3 a4 M)) (
    GX99_fused_42 a0 a1 a2 a3 a4 M)
def HX99_fused_19 (a0 : Nat) (a1 : Int32) (a2 : Int32) (a3 : Int32) (a4 : Int32) (M : FM) : Prop := let x1 : Nat := (M.2.2 375 a0 0); (((M.1 3 x1 (Int32.ofInt 0).toNatClampNeg) = 0 → let x2 : Nat := (M.2.2 375 a0 0); (((M.1 3 x2 (Int32.ofInt 1).toNatClampNeg) = (Int32.ofInt 2) → HX99_fused_38 a0 a1 a2 a3 a4 M) ∧ (¬ ((M.1 3 x2 (Int32.ofInt 1).toNatClampNeg) = (Int32.ofInt 2)) → HX99_fused_42 a0 a1 a2 a3 a4 M))) ∧ (¬ ((M.1 3 x1 (Int32.ofInt 0).toNatClampNeg) = 0) → HX99_fused_42 a0 a1 a2 a3 a4 M))
theorem gX99_fused_19 (a0 : Nat) (a1 : Int32) (a2 : Int32) (a3 : Int32) (a4 : Int32) (M : FM) (T : Ty M) (n_a0 : fm_is M 96 96 a0 = true) (h : HX99_fused_19 a0 a1 a2 a3 a4 M) : gd (FX99_fused_19 fN a0 a1 a2 a3 a4 M) (GX99_fused_19 a0 a1 a2 a3 a4 M) (OkR M) := by
  delta FX99_fused_19 BX99_fused_19
  refine gd_c n_a0 ?_
  have f4 := (tN_375 T.1 n_a0)
  have f5 := (fm_inl (i := (Int32.ofInt 0)) (tL_375 T.1 n_a0) (by decide))
  refine gd_c ⟨f4, f5⟩ ?_
  refine gd_fi (fun c0_0 => ?_) (fun c0_0 => ?_)
  · refine gd_c n_a0 ?_
    have f2 := (tN_375 T.1 n_a0)
    have f3 := (fm_inl (i := (Int32.ofInt 1)) (tL_375 T.1 n_a0) (by decide))
    refine gd_c ⟨f2, f3⟩ ?_
    refine gd_fi (fun c1_0 => ?_) (fun c1_0 => ?_)
    · exact gd_tR (ext_r _) (gX99_fused_38 _ _ _ _ _ _ ⟨T.1, T.2⟩ n_a0 ((h.1 c0_0).1 c1_0))
    · exact gd_tR (ext_r _) (gX99_fused_42 _ _ _ _ _ _ ⟨T.1, T.2⟩ n_a0 ((h.1 c0_0).2 c1_0))
  · exact gd_tR (ext_r _) (gX99_fused_42 _ _ _ _ _ _ ⟨T.1, T.2⟩ n_a0 (h.2 c0_0))
noncomputable def GX99_fused_0 (a0 : Nat) (a1 : Int32) (a2 : Int32) (a3 : Int32) (a4 : Int32) (M : FM) : Int64 × FM :=
  let x1 : Nat := (M.2.2 375 a0 0)
  fi ((M.1 3 x1 (Int32.ofInt 0).toNatClampNeg) = (Int32.ofInt 2)) (
    let x2 : Nat := (M.2.2 375 a0 0)
    fi ((M.1 3 x2 (Int32.ofInt 1).toNatClampNeg) = 0) (
      GX99_fused_38 a0 a1 a2 a3 a4 M) (
      GX99_fused_19 a0 a1 a2 a3 a4 M)) (
    GX99_fused_19 a0 a1 a2 a3 a4 M)
def HX99_fused_0 (a0 : Nat) (a1 : Int32) (a2 : Int32) (a3 : Int32) (a4 : Int32) (M : FM) : Prop := let x1 : Nat := (M.2.2 375 a0 0); (((M.1 3 x1 (Int32.ofInt 0).toNatClampNeg) = (Int32.ofInt 2) → let x2 : Nat := (M.2.2 375 a0 0); (((M.1 3 x2 (Int32.ofInt 1).toNatClampNeg) = 0 → HX99_fused_38 a0 a1 a2 a3 a4 M) ∧ (¬ ((M.1 3 x2 (Int32.ofInt 1).toNatClampNeg) = 0) → HX99_fused_19 a0 a1 a2 a3 a4 M))) ∧ (¬ ((M.1 3 x1 (Int32.ofInt 0).toNatClampNeg) = (Int32.ofInt 2)) → HX99_fused_19 a0 a1 a2 a3 a4 M))
theorem gX99_fused_0 (a0 : Nat) (a1 : Int32) (a2 : Int32) (a3 : Int32) (a4 : Int32) (M : FM) (T : Ty M) (n_a0 : fm_is M 96 96 a0 = true) (h : HX99_fused_0 a0 a1 a2 a3 a4 M) : gd (FX99_fused_0 fN a0 a1 a2 a3 a4 M) (GX99_fused_0 a0 a1 a2 a3 a4 M) (OkR M) := by
  delta FX99_fused_0 BX99_fused_0
  refine gd_c n_a0 ?_
  have f4 := (tN_375 T.1 n_a0)
  have f5 := (fm_inl (i := (Int32.ofInt 0)) (tL_375 T.1 n_a0) (by decide))
  refine gd_c ⟨f4, f5⟩ ?_
  refine gd_fi (fun c0_0 => ?_) (fun c0_0 => ?_)
  · refine gd_c n_a0 ?_
    have f2 := (tN_375 T.1 n_a0)
    have f3 := (fm_inl (i := (Int32.ofInt 1)) (tL_375 T.1 n_a0) (by decide))
    refine gd_c ⟨f2, f3⟩ ?_
    refine gd_fi (fun c1_0 => ?_) (fun c1_0 => ?_)
    · exact gd_tR (ext_r _) (gX99_fused_38 _ _ _ _ _ _ ⟨T.1, T.2⟩ n_a0 ((h.1 c0_0).1 c1_0))
    · exact gd_tR (ext_r _) (gX99_fused_19 _ _ _ _ _ _ ⟨T.1, T.2⟩ n_a0 ((h.1 c0_0).2 c1_0))
  · exact gd_tR (ext_r _) (gX99_fused_19 _ _ _ _ _ _ ⟨T.1, T.2⟩ n_a0 (h.2 c0_0))
noncomputable def GX99_fused (a0 : Nat) (a1 : Int32) (a2 : Int32) (a3 : Int32) (a4 : Int32) (M : FM) : Int64 × FM := GX99_fused_0 a0 a1 a2 a3 a4 M
def HX99_fused (a0 : Nat) (a1 : Int32) (a2 : Int32) (a3 : Int32) (a4 : Int32) (M : FM) : Prop := HX99_fused_0 a0 a1 a2 a3 a4 M
theorem gX99_fused (a0 : Nat) (a1 : Int32) (a2 : Int32) (a3 : Int32) (a4 : Int32) (M : FM) (T : Ty M) (n_a0 : fm_is M 96 96 a0 = true) (h : HX99_fused a0 a1 a2 a3 a4 M) : gd (FX99_fused fN a0 a1 a2 a3 a4 M) (GX99_fused a0 a1 a2 a3 a4 M) (OkR M) := gX99_fused_0 a0 a1 a2 a3 a4 M T n_a0 h
noncomputable def GX99_write_20 (a0 : Nat) (s0 : Nat) (s1 : Int32) (s2 : Int64) (M : FM) : Int32 × FM :=
  let M1 : FM := fm_sL M 3 s0 s1.toNatClampNeg s2
  let M2 : FM := fm_sI M1 371 a0 0 (Int32.ofInt 1)
  ((Int32.ofInt 0), M2)
def HX99_write_20 (a0 : Nat) (s0 : Nat) (s1 : Int32) (s2 : Int64) (M : FM) : Prop := (fm_in M s0 s1 = true ∧ True)
theorem gX99_write_20 (a0 : Nat) (s0 : Nat) (s1 : Int32) (s2 : Int64) (M : FM) (T : Ty M) (n_s0 : fm_is M 902 902 s0 = true) (n_a0 : fm_is M 96 96 a0 = true) (h : HX99_write_20 a0 s0 s1 s2 M) : gd (FX99_write_20 a0 s0 s1 s2 M) (GX99_write_20 a0 s0 s1 s2 M) (OkR M) := by
  delta FX99_write_20 BX99_write_20
  refine gd_c ⟨n_s0, h.1⟩ ?_
  refine gd_c n_a0 ?_
  refine gd_c fz_1 ?_
  exact ⟨rfl, ⟨T.1, (tyb_sIb (f := 371) rfl T.2 fz_1)⟩, (ext_dL (ext_dI (ext_r _)))⟩
noncomputable def GX99_write_0 (a0 : Nat) (a1 : Int32) (a2 : Int64) (a4 : Int32) (M : FM) : Int32 × FM :=
  fi (a4 = (Int32.ofInt 1)) (
    GX99_write_20 a0 (M.2.2 367 a0 0) a1 a2 M) (
    GX99_write_20 a0 (M.2.2 367 a0 0) a1 (a2 ||| (Int64.ofInt (-4294967296))) M)
def HX99_write_0 (a0 : Nat) (a1 : Int32) (a2 : Int64) (a4 : Int32) (M : FM) : Prop := ((a4 = (Int32.ofInt 1) → HX99_write_20 a0 (M.2.2 367 a0 0) a1 a2 M) ∧ (¬ (a4 = (Int32.ofInt 1)) → HX99_write_20 a0 (M.2.2 367 a0 0) a1 (a2 ||| (Int64.ofInt (-4294967296))) M))
theorem gX99_write_0 (a0 : Nat) (a1 : Int32) (a2 : Int64) (a4 : Int32) (M : FM) (T : Ty M) (n_a0 : fm_is M 96 96 a0 = true) (h : HX99_write_0 a0 a1 a2 a4 M) : gd (FX99_write_0 a0 a1 a2 a4 M) (GX99_write_0 a0 a1 a2 a4 M) (OkR M) := by
  delta FX99_write_0 BX99_write_0
  refine gd_c n_a0 ?_
  refine gd_fi (fun c0_0 => ?_) (fun c0_0 => ?_)
  · have f1 := (tN_367 T.1 n_a0)
    exact gd_tR (ext_r _) (gX99_write_20 _ _ _ _ _ ⟨T.1, T.2⟩ f1 n_a0 (h.1 c0_0))
  · have f2 := (tN_367 T.1 n_a0)
    exact gd_tR (ext_r _) (gX99_write_20 _ _ _ _ _ ⟨T.1, T.2⟩ f2 n_a0 (h.2 c0_0))
noncomputable def GX99_write (a0 : Nat) (a1 : Int32) (a2 : Int64) (a4 : Int32) (M : FM) : Int32 × FM := GX99_write_0 a0 a1 a2 a4 M
def HX99_write (a0 : Nat) (a1 : Int32) (a2 : Int64) (a4 : Int32) (M : FM) : Prop := HX99_write_0 a0 a1 a2 a4 M
theorem gX99_write (a0 : Nat) (a1 : Int32) (a2 : Int64) (a4 : Int32) (M : FM) (T : Ty M) (n_a0 : fm_is M 96 96 a0 = true) (h : HX99_write a0 a1 a2 a4 M) : gd (FX99_write a0 a1 a2 a4 M) (GX99_write a0 a1 a2 a4 M) (OkR M) := gX99_write_0 a0 a1 a2 a4 M T n_a0 h
noncomputable def GX99_added_74 (a0 : Nat) (a2 : Int32) (a6 : Int32) (a7 : Int32) (a8 : Int32) (M : FM) : Int64 × FM :=
  let x1 : Nat := (M.2.2 376 a0 0)
  let r2 : Int64 × FM := GX99_infiniteSum a0 a7 (M.1 3 x1 (Int32.ofInt 0).toNatClampNeg) a8 a6 a2 M
  (r2.1, r2.2)
def HX99_added_74 (a0 : Nat) (a2 : Int32) (a6 : Int32) (a7 : Int32) (a8 : Int32) (M : FM) : Prop := let x1 : Nat := (M.2.2 376 a0 0); (HX99_infiniteSum a0 a7 (M.1 3 x1 (Int32.ofInt 0).toNatClampNeg) a8 a6 a2 M ∧ True)
theorem gX99_added_74 (a0 : Nat) (a2 : Int32) (a6 : Int32) (a7 : Int32) (a8 : Int32) (M : FM) (T : Ty M) (n_a0 : fm_is M 96 96 a0 = true) (h : HX99_added_74 a0 a2 a6 a7 a8 M) : gd (FX99_added_74 fN a0 a2 a6 a7 a8 M) (GX99_added_74 a0 a2 a6 a7 a8 M) (OkR M) := by
  delta FX99_added_74 BX99_added_74
  refine gd_c n_a0 ?_
  have f1 := (tN_376 T.1 n_a0)
  have f2 := (fm_inl (i := (Int32.ofInt 0)) (tL_376 T.1 n_a0) (by decide))
  refine gd_c ⟨f1, f2⟩ ?_
  refine gd_c n_a0 ?_
  refine gd_b (gX99_infiniteSum _ _ _ _ _ _ _ ⟨T.1, T.2⟩ n_a0 h.1) (fun K0 => ?_)
  exact ⟨rfl, ⟨K0.1.1, K0.1.2⟩, K0.2⟩
noncomputable def GX99_added_62 (a0 : Nat) (a2 : Int32) (a3 : Int32) (a6 : Int32) (a7 : Int32) (s0 : Int32) (M : FM) : Int64 × FM :=
  fi (a7 = 0) (
    fi (s0 = 0) (
      let x1 : Nat := (M.2.2 377 a0 0)
      let M2 : FM := GX99_put (M.2.2 379 a0 0) (M.2.1 3 x1 (Int32.ofInt 0).toNatClampNeg) M
      let x3 : Nat := (M2.2.2 377 a0 0)
      let M4 : FM := GX99_put (M2.2.2 380 a0 0) (M2.2.1 3 x3 (Int32.ofInt 1).toNatClampNeg) M2
      let x5 : Nat := (M4.2.2 376 a0 0)
      let x6 : Nat := (M4.2.2 378 a0 0)
      let x7 : Nat := (M4.2.2 378 a0 0)
      let r8 : Int64 × FM := GX99_sum a0 (M4.1 3 x5 (Int32.ofInt 0).toNatClampNeg) (M4.1 3 x6 (Int32.ofInt 0).toNatClampNeg) a6 (M4.1 3 x7 (Int32.ofInt 1).toNatClampNeg) a2 a3 M4
      (r8.1, r8.2)) (
      GX99_added_74 a0 a2 a6 a7 s0 M)) (
    GX99_added_74 a0 a2 a6 a7 s0 M)
def HX99_added_62 (a0 : Nat) (a2 : Int32) (a3 : Int32) (a6 : Int32) (a7 : Int32) (s0 : Int32) (M : FM) : Prop := ((a7 = 0 → ((s0 = 0 → let x1 : Nat := (M.2.2 377 a0 0); (HX99_put (M.2.2 379 a0 0) (M.2.1 3 x1 (Int32.ofInt 0).toNatClampNeg) M ∧ let M2 : FM := GX99_put (M.2.2 379 a0 0) (M.2.1 3 x1 (Int32.ofInt 0).toNatClampNeg) M; let x3 : Nat := (M2.2.2 377 a0 0); (HX99_put (M2.2.2 380 a0 0) (M2.2.1 3 x3 (Int32.ofInt 1).toNatClampNeg) M2 ∧ let M4 : FM := GX99_put (M2.2.2 380 a0 0) (M2.2.1 3 x3 (Int32.ofInt 1).toNatClampNeg) M2; let x5 : Nat := (M4.2.2 376 a0 0); let x6 : Nat := (M4.2.2 378 a0 0); let x7 : Nat := (M4.2.2 378 a0 0); (HX99_sum a0 (M4.1 3 x5 (Int32.ofInt 0).toNatClampNeg) (M4.1 3 x6 (Int32.ofInt 0).toNatClampNeg) a6 (M4.1 3 x7 (Int32.ofInt 1).toNatClampNeg) a2 a3 M4 ∧ True)))) ∧ (¬ (s0 = 0) → HX99_added_74 a0 a2 a6 a7 s0 M))) ∧ (¬ (a7 = 0) → HX99_added_74 a0 a2 a6 a7 s0 M))
theorem gX99_added_62 (a0 : Nat) (a2 : Int32) (a3 : Int32) (a6 : Int32) (a7 : Int32) (s0 : Int32) (M : FM) (T : Ty M) (n_a0 : fm_is M 96 96 a0 = true) (h : HX99_added_62 a0 a2 a3 a6 a7 s0 M) : gd (FX99_added_62 fN a0 a2 a3 a6 a7 s0 M) (GX99_added_62 a0 a2 a3 a6 a7 s0 M) (OkR M) := by
  delta FX99_added_62 BX99_added_62
  refine gd_fi (fun c0_0 => ?_) (fun c0_0 => ?_)
  · refine gd_fi (fun c1_0 => ?_) (fun c1_0 => ?_)
    · refine gd_c n_a0 ?_
      refine gd_c n_a0 ?_
      have f20 := (tN_377 T.1 n_a0)
      have f21 := (fm_inl (i := (Int32.ofInt 0)) (tL_377 T.1 n_a0) (by decide))
      refine gd_c ⟨f20, f21⟩ ?_
      refine gd_b (gX99_put _ _ _ ((h.1 c0_0).1 c1_0).1) (fun K2 => ?_)
      have f3 := (ext_is K2.2 (Nat.zero_lt_succ _) n_a0)
      refine gd_c f3 ?_
      have f4 := (ext_is K2.2 (Nat.zero_lt_succ _) n_a0)
      refine gd_c f4 ?_
      have f18 := (tN_377 K2.1.1 (ext_is K2.2 (Nat.zero_lt_succ _) n_a0))
      have f19 := (fm_inl (i := (Int32.ofInt 1)) (tL_377 K2.1.1 (ext_is K2.2 (Nat.zero_lt_succ _) n_a0)) (by decide))
      refine gd_c ⟨f18, f19⟩ ?_
      refine gd_b (gX99_put _ _ _ ((h.1 c0_0).1 c1_0).2.1) (fun K5 => ?_)
      have f6 := (ext_is K5.2 (Nat.zero_lt_succ _) (ext_is K2.2 (Nat.zero_lt_succ _) n_a0))
      refine gd_c f6 ?_
      have f16 := (tN_376 K5.1.1 (ext_is K5.2 (Nat.zero_lt_succ _) (ext_is K2.2 (Nat.zero_lt_succ _) n_a0)))
      have f17 := (fm_inl (i := (Int32.ofInt 0)) (tL_376 K5.1.1 (ext_is K5.2 (Nat.zero_lt_succ _) (ext_is K2.2 (Nat.zero_lt_succ _) n_a0))) (by decide))
      refine gd_c ⟨f16, f17⟩ ?_
      have f7 := (ext_is K5.2 (Nat.zero_lt_succ _) (ext_is K2.2 (Nat.zero_lt_succ _) n_a0))
      refine gd_c f7 ?_
      have f14 := (tN_378 K5.1.1 (ext_is K5.2 (Nat.zero_lt_succ _) (ext_is K2.2 (Nat.zero_lt_succ _) n_a0)))
      have f15 := (fm_inl (i := (Int32.ofInt 0)) (tL_378 K5.1.1 (ext_is K5.2 (Nat.zero_lt_succ _) (ext_is K2.2 (Nat.zero_lt_succ _) n_a0))) (by decide))
      refine gd_c ⟨f14, f15⟩ ?_
      have f8 := (ext_is K5.2 (Nat.zero_lt_succ _) (ext_is K2.2 (Nat.zero_lt_succ _) n_a0))
      refine gd_c f8 ?_
      have f12 := (tN_378 K5.1.1 (ext_is K5.2 (Nat.zero_lt_succ _) (ext_is K2.2 (Nat.zero_lt_succ _) n_a0)))
      have f13 := (fm_inl (i := (Int32.ofInt 1)) (tL_378 K5.1.1 (ext_is K5.2 (Nat.zero_lt_succ _) (ext_is K2.2 (Nat.zero_lt_succ _) n_a0))) (by decide))
      refine gd_c ⟨f12, f13⟩ ?_
      have f9 := (ext_is K5.2 (Nat.zero_lt_succ _) (ext_is K2.2 (Nat.zero_lt_succ _) n_a0))
      refine gd_c f9 ?_
      have f11 := (ext_is K5.2 (Nat.zero_lt_succ _) (ext_is K2.2 (Nat.zero_lt_succ _) n_a0))
      refine gd_b (gX99_sum _ _ _ _ _ _ _ _ ⟨K5.1.1, K5.1.2⟩ f11 ((h.1 c0_0).1 c1_0).2.2.1) (fun K10 => ?_)
      exact ⟨rfl, ⟨K10.1.1, K10.1.2⟩, (ext_tr K2.2 (ext_tr K5.2 K10.2))⟩
    · exact gd_tR (ext_r _) (gX99_added_74 _ _ _ _ _ _ ⟨T.1, T.2⟩ n_a0 ((h.1 c0_0).2 c1_0))
  · exact gd_tR (ext_r _) (gX99_added_74 _ _ _ _ _ _ ⟨T.1, T.2⟩ n_a0 (h.2 c0_0))
noncomputable def GX99_added_45 (a0 : Nat) (a2 : Int32) (a3 : Int32) (a6 : Int32) (s0 : Int32) (M : FM) : Int64 × FM :=
  let x1 : Nat := (M.2.2 375 a0 0)
  fi ((M.1 3 x1 (Int32.ofInt 1).toNatClampNeg) = (Int32.ofInt 2)) (
    GX99_added_62 a0 a2 a3 a6 s0 (Int32.ofInt 1) M) (
    GX99_added_62 a0 a2 a3 a6 s0 (Int32.ofInt 0) M)
def HX99_added_45 (a0 : Nat) (a2 : Int32) (a3 : Int32) (a6 : Int32) (s0 : Int32) (M : FM) : Prop := let x1 : Nat := (M.2.2 375 a0 0); (((M.1 3 x1 (Int32.ofInt 1).toNatClampNeg) = (Int32.ofInt 2) → HX99_added_62 a0 a2 a3 a6 s0 (Int32.ofInt 1) M) ∧ (¬ ((M.1 3 x1 (Int32.ofInt 1).toNatClampNeg) = (Int32.ofInt 2)) → HX99_added_62 a0 a2 a3 a6 s0 (Int32.ofInt 0) M))
theorem gX99_added_45 (a0 : Nat) (a2 : Int32) (a3 : Int32) (a6 : Int32) (s0 : Int32) (M : FM) (T : Ty M) (n_a0 : fm_is M 96 96 a0 = true) (h : HX99_added_45 a0 a2 a3 a6 s0 M) : gd (FX99_added_45 fN a0 a2 a3 a6 s0 M) (GX99_added_45 a0 a2 a3 a6 s0 M) (OkR M) := by
  delta FX99_added_45 BX99_added_45
  refine gd_c n_a0 ?_
  have f1 := (tN_375 T.1 n_a0)
  have f2 := (fm_inl (i := (Int32.ofInt 1)) (tL_375 T.1 n_a0) (by decide))
  refine gd_c ⟨f1, f2⟩ ?_
  refine gd_fi (fun c0_0 => ?_) (fun c0_0 => ?_)
  · exact gd_tR (ext_r _) (gX99_added_62 _ _ _ _ _ _ _ ⟨T.1, T.2⟩ n_a0 (h.1 c0_0))
  · exact gd_tR (ext_r _) (gX99_added_62 _ _ _ _ _ _ _ ⟨T.1, T.2⟩ n_a0 (h.2 c0_0))
noncomputable def GX99_added_0 (a0 : Nat) (a1 : Int32) (a2 : Int32) (a3 : Int32) (M : FM) : Int64 × FM :=
  let r1 : Int64 × FM := GX99_none a0 (Int32.ofInt 2) a2 M
  fi ((lg_cmp r1.1 (Int64.ofInt (-1))) = 0) (
    let x2 : Nat := (r1.2.2.2 376 a0 0)
    let x3 : Int32 := ((r1.2.1 3 x2 (Int32.ofInt 1).toNatClampNeg) ^^^ a1)
    let x4 : Nat := (r1.2.2.2 375 a0 0)
    fi ((r1.2.1 3 x4 (Int32.ofInt 0).toNatClampNeg) = (Int32.ofInt 2)) (
      GX99_added_45 a0 a2 a3 x3 (Int32.ofInt 1) r1.2) (
      GX99_added_45 a0 a2 a3 x3 (Int32.ofInt 0) r1.2)) (
    (r1.1, r1.2))
def HX99_added_0 (a0 : Nat) (a1 : Int32) (a2 : Int32) (a3 : Int32) (M : FM) : Prop := (HX99_none a0 (Int32.ofInt 2) a2 M ∧ let r1 : Int64 × FM := GX99_none a0 (Int32.ofInt 2) a2 M; (((lg_cmp r1.1 (Int64.ofInt (-1))) = 0 → let x2 : Nat := (r1.2.2.2 376 a0 0); let x3 : Int32 := ((r1.2.1 3 x2 (Int32.ofInt 1).toNatClampNeg) ^^^ a1); let x4 : Nat := (r1.2.2.2 375 a0 0); (((r1.2.1 3 x4 (Int32.ofInt 0).toNatClampNeg) = (Int32.ofInt 2) → HX99_added_45 a0 a2 a3 x3 (Int32.ofInt 1) r1.2) ∧ (¬ ((r1.2.1 3 x4 (Int32.ofInt 0).toNatClampNeg) = (Int32.ofInt 2)) → HX99_added_45 a0 a2 a3 x3 (Int32.ofInt 0) r1.2))) ∧ (¬ ((lg_cmp r1.1 (Int64.ofInt (-1))) = 0) → True)))
theorem gX99_added_0 (a0 : Nat) (a1 : Int32) (a2 : Int32) (a3 : Int32) (M : FM) (T : Ty M) (n_a0 : fm_is M 96 96 a0 = true) (h : HX99_added_0 a0 a1 a2 a3 M) : gd (FX99_added_0 fN a0 a1 a2 a3 M) (GX99_added_0 a0 a1 a2 a3 M) (OkR M) := by
  delta FX99_added_0 BX99_added_0
  refine gd_c n_a0 ?_
  refine gd_b (gX99_none _ _ _ _ h.1) (fun K0 => ?_)
  refine gd_fi (fun c1_0 => ?_) (fun c1_0 => ?_)
  · have f2 := (ext_is K0.2 (Nat.zero_lt_succ _) n_a0)
    refine gd_c f2 ?_
    have f9 := (tN_376 K0.1.1 (ext_is K0.2 (Nat.zero_lt_succ _) n_a0))
    have f10 := (fm_inl (i := (Int32.ofInt 1)) (tL_376 K0.1.1 (ext_is K0.2 (Nat.zero_lt_succ _) n_a0)) (by decide))
    refine gd_c ⟨f9, f10⟩ ?_
    have f3 := (ext_is K0.2 (Nat.zero_lt_succ _) n_a0)
    refine gd_c f3 ?_
    have f7 := (tN_375 K0.1.1 (ext_is K0.2 (Nat.zero_lt_succ _) n_a0))
    have f8 := (fm_inl (i := (Int32.ofInt 0)) (tL_375 K0.1.1 (ext_is K0.2 (Nat.zero_lt_succ _) n_a0)) (by decide))
    refine gd_c ⟨f7, f8⟩ ?_
    refine gd_fi (fun c4_0 => ?_) (fun c4_0 => ?_)
    · have f5 := (ext_is K0.2 (Nat.zero_lt_succ _) n_a0)
      exact gd_tR K0.2 (gX99_added_45 _ _ _ _ _ _ ⟨K0.1.1, K0.1.2⟩ f5 ((h.2.1 c1_0).1 c4_0))
    · have f6 := (ext_is K0.2 (Nat.zero_lt_succ _) n_a0)
      exact gd_tR K0.2 (gX99_added_45 _ _ _ _ _ _ ⟨K0.1.1, K0.1.2⟩ f6 ((h.2.1 c1_0).2 c4_0))
  · exact ⟨rfl, ⟨K0.1.1, K0.1.2⟩, K0.2⟩
noncomputable def GX99_added (a0 : Nat) (a1 : Int32) (a2 : Int32) (a3 : Int32) (M : FM) : Int64 × FM := GX99_added_0 a0 a1 a2 a3 M
def HX99_added (a0 : Nat) (a1 : Int32) (a2 : Int32) (a3 : Int32) (M : FM) : Prop := HX99_added_0 a0 a1 a2 a3 M
theorem gX99_added (a0 : Nat) (a1 : Int32) (a2 : Int32) (a3 : Int32) (M : FM) (T : Ty M) (n_a0 : fm_is M 96 96 a0 = true) (h : HX99_added a0 a1 a2 a3 M) : gd (FX99_added fN a0 a1 a2 a3 M) (GX99_added a0 a1 a2 a3 M) (OkR M) := gX99_added_0 a0 a1 a2 a3 M T n_a0 h
noncomputable def GX99_multiplied_139 (s0 : Int64) (M : FM) : Int64 × FM :=
  (s0, M)
theorem gX99_multiplied_139 (s0 : Int64) (M : FM) (T : Ty M) : gd (FX99_multiplied_139 fN s0 M) (GX99_multiplied_139 s0 M) (OkR M) := by
  delta FX99_multiplied_139 BX99_multiplied_139
  exact ⟨rfl, ⟨T.1, T.2⟩, (ext_r _)⟩
noncomputable def GX99_multiplied_110 (a0 : Nat) (a1 : Int32) (a5 : Int32) (a6 : Int32) (M : FM) : Int64 × FM :=
  fi (a6 = 0) (
    let r1 : Int64 × FM := GX99_zero a0 a5 a1 M
    GX99_multiplied_139 r1.1 r1.2) (
    let x2 : Nat := (M.2.2 374 a0 0)
    let r3 : Int64 × FM := GX99_pack a5 ((M.1 3 x2 a1.toNatClampNeg).toInt64) (Int64.ofInt 0) a1 M
    GX99_multiplied_139 r3.1 r3.2)
def HX99_multiplied_110 (a0 : Nat) (a1 : Int32) (a5 : Int32) (a6 : Int32) (M : FM) : Prop := ((a6 = 0 → True) ∧ (¬ (a6 = 0) → let x2 : Nat := (M.2.2 374 a0 0); (fm_in M x2 a1 = true ∧ True)))
theorem gX99_multiplied_110 (a0 : Nat) (a1 : Int32) (a5 : Int32) (a6 : Int32) (M : FM) (T : Ty M) (n_a0 : fm_is M 96 96 a0 = true) (h : HX99_multiplied_110 a0 a1 a5 a6 M) : gd (FX99_multiplied_110 fN a0 a1 a5 a6 M) (GX99_multiplied_110 a0 a1 a5 a6 M) (OkR M) := by
  delta FX99_multiplied_110 BX99_multiplied_110
  refine gd_fi (fun c0_0 => ?_) (fun c0_0 => ?_)
  · refine gd_c n_a0 ?_
    refine gd_b (gX99_zero _ _ _ _ ⟨T.1, T.2⟩  ) (fun K1 => ?_)
    exact gd_tR K1.2 (gX99_multiplied_139 _ _ ⟨K1.1.1, K1.1.2⟩  )
  · refine gd_c n_a0 ?_
    have f3 := (tN_374 T.1 n_a0)
    refine gd_c ⟨f3, (h.2 c0_0).1⟩ ?_
    refine gd_b (gX99_pack _ _ _ _ _ ⟨T.1, T.2⟩  ) (fun K2 => ?_)
    exact gd_tR K2.2 (gX99_multiplied_139 _ _ ⟨K2.1.1, K2.1.2⟩  )
noncomputable def GX99_multiplied_100 (a0 : Nat) (a1 : Int32) (a2 : Int32) (a5 : Int32) (a6 : Int32) (a7 : Int32) (M : FM) : Int64 × FM :=
  fi (a6 = 0) (
    fi (a7 = 0) (
      let x1 : Nat := (M.2.2 377 a0 0)
      let x2 : Nat := (M.2.2 377 a0 0)
      let M3 : FM := GX99_multiply (M.2.2 379 a0 0) (M.2.1 3 x1 (Int32.ofInt 0).toNatClampNeg) (M.2.1 3 x2 (Int32.ofInt 1).toNatClampNeg) M
      let x4 : Nat := (M3.2.2 378 a0 0)
      let x5 : Nat := (M3.2.2 378 a0 0)
      let M6 : FM := fm_sI M3 383 a0 0 ((M3.1 3 x4 (Int32.ofInt 0).toNatClampNeg) + (M3.1 3 x5 (Int32.ofInt 1).toNatClampNeg))
      let M7 : FM := fm_sI M6 382 a0 0 a5
      let M8 : FM := fm_sI M7 381 a0 0 (Int32.ofInt 0)
      let r9 : Int64 × FM := GX99_rounded a0 a1 a2 M8
      (r9.1, r9.2)) (
      GX99_multiplied_110 a0 a1 a5 a6 M)) (
    GX99_multiplied_110 a0 a1 a5 a6 M)
def HX99_multiplied_100 (a0 : Nat) (a1 : Int32) (a2 : Int32) (a5 : Int32) (a6 : Int32) (a7 : Int32) (M : FM) : Prop := ((a6 = 0 → ((a7 = 0 → let x1 : Nat := (M.2.2 377 a0 0); let x2 : Nat := (M.2.2 377 a0 0); (HX99_multiply (M.2.2 379 a0 0) (M.2.1 3 x1 (Int32.ofInt 0).toNatClampNeg) (M.2.1 3 x2 (Int32.ofInt 1).toNatClampNeg) M ∧ let M3 : FM := GX99_multiply (M.2.2 379 a0 0) (M.2.1 3 x1 (Int32.ofInt 0).toNatClampNeg) (M.2.1 3 x2 (Int32.ofInt 1).toNatClampNeg) M; let x4 : Nat := (M3.2.2 378 a0 0); let x5 : Nat := (M3.2.2 378 a0 0); let M6 : FM := fm_sI M3 383 a0 0 ((M3.1 3 x4 (Int32.ofInt 0).toNatClampNeg) + (M3.1 3 x5 (Int32.ofInt 1).toNatClampNeg)); let M7 : FM := fm_sI M6 382 a0 0 a5; let M8 : FM := fm_sI M7 381 a0 0 (Int32.ofInt 0); (HX99_rounded a0 a1 a2 M8 ∧ True))) ∧ (¬ (a7 = 0) → HX99_multiplied_110 a0 a1 a5 a6 M))) ∧ (¬ (a6 = 0) → HX99_multiplied_110 a0 a1 a5 a6 M))
theorem gX99_multiplied_100 (a0 : Nat) (a1 : Int32) (a2 : Int32) (a5 : Int32) (a6 : Int32) (a7 : Int32) (M : FM) (T : Ty M) (n_a0 : fm_is M 96 96 a0 = true) (h : HX99_multiplied_100 a0 a1 a2 a5 a6 a7 M) : gd (FX99_multiplied_100 fN a0 a1 a2 a5 a6 a7 M) (GX99_multiplied_100 a0 a1 a2 a5 a6 a7 M) (OkR M) := by
  delta FX99_multiplied_100 BX99_multiplied_100
  refine gd_fi (fun c0_0 => ?_) (fun c0_0 => ?_)
  · refine gd_fi (fun c1_0 => ?_) (fun c1_0 => ?_)
    · refine gd_c n_a0 ?_
      refine gd_c n_a0 ?_
      have f17 := (tN_377 T.1 n_a0)
      have f18 := (fm_inl (i := (Int32.ofInt 0)) (tL_377 T.1 n_a0) (by decide))
      refine gd_c ⟨f17, f18⟩ ?_
      refine gd_c n_a0 ?_
      have f15 := (tN_377 T.1 n_a0)
      have f16 := (fm_inl (i := (Int32.ofInt 1)) (tL_377 T.1 n_a0) (by decide))
      refine gd_c ⟨f15, f16⟩ ?_
      refine gd_b (gX99_multiply _ _ _ _ ((h.1 c0_0).1 c1_0).1) (fun K2 => ?_)
      have f3 := (ext_is K2.2 (Nat.zero_lt_succ _) n_a0)
      refine gd_c f3 ?_
      have f13 := (tN_378 K2.1.1 (ext_is K2.2 (Nat.zero_lt_succ _) n_a0))
      have f14 := (fm_inl (i := (Int32.ofInt 0)) (tL_378 K2.1.1 (ext_is K2.2 (Nat.zero_lt_succ _) n_a0)) (by decide))
      refine gd_c ⟨f13, f14⟩ ?_
      have f4 := (ext_is K2.2 (Nat.zero_lt_succ _) n_a0)
      refine gd_c f4 ?_
      have f11 := (tN_378 K2.1.1 (ext_is K2.2 (Nat.zero_lt_succ _) n_a0))
      have f12 := (fm_inl (i := (Int32.ofInt 1)) (tL_378 K2.1.1 (ext_is K2.2 (Nat.zero_lt_succ _) n_a0)) (by decide))
      refine gd_c ⟨f11, f12⟩ ?_
      have f5 := (ext_is K2.2 (Nat.zero_lt_succ _) n_a0)
      refine gd_c f5 ?_
      have f6 := (ext_is K2.2 (Nat.zero_lt_succ _) n_a0)
      refine gd_c f6 ?_
      have f7 := (ext_is K2.2 (Nat.zero_lt_succ _) n_a0)
      refine gd_c f7 ?_
      refine gd_c fz_0 ?_
      have f8 := (ext_is K2.2 (Nat.zero_lt_succ _) n_a0)
      refine gd_c f8 ?_
      have f10 := (ext_is K2.2 (Nat.zero_lt_succ _) n_a0)
      refine gd_b (gX99_rounded _ _ _ _ ⟨K2.1.1, (tyb_sIb (f := 381) rfl (tyb_sI (f := 382) rfl (tyb_sI (f := 383) rfl K2.1.2)) fz_0)⟩ f10 ((h.1 c0_0).1 c1_0).2.1) (fun K9 => ?_)
      exact ⟨rfl, ⟨K9.1.1, K9.1.2⟩, (ext_tr K2.2 (ext_dI (ext_dI (ext_dI K9.2))))⟩
    · exact gd_tR (ext_r _) (gX99_multiplied_110 _ _ _ _ _ ⟨T.1, T.2⟩ n_a0 ((h.1 c0_0).2 c1_0))
  · exact gd_tR (ext_r _) (gX99_multiplied_110 _ _ _ _ _ ⟨T.1, T.2⟩ n_a0 (h.2 c0_0))
noncomputable def GX99_multiplied_82 (a0 : Nat) (a1 : Int32) (a2 : Int32) (a5 : Int32) (a6 : Int32) (s0 : Int32) (M : FM) : Int64 × FM :=
  fi (a6 = 0) (
    GX99_multiplied_100 a0 a1 a2 a5 a6 s0 M) (
    fi (s0 = 0) (
      GX99_multiplied_100 a0 a1 a2 a5 a6 s0 M) (
      let r1 : Int64 × FM := GX99_invalid a0 a1 M
      (r1.1, r1.2)))
def HX99_multiplied_82 (a0 : Nat) (a1 : Int32) (a2 : Int32) (a5 : Int32) (a6 : Int32) (s0 : Int32) (M : FM) : Prop := ((a6 = 0 → HX99_multiplied_100 a0 a1 a2 a5 a6 s0 M) ∧ (¬ (a6 = 0) → ((s0 = 0 → HX99_multiplied_100 a0 a1 a2 a5 a6 s0 M) ∧ (¬ (s0 = 0) → True))))
theorem gX99_multiplied_82 (a0 : Nat) (a1 : Int32) (a2 : Int32) (a5 : Int32) (a6 : Int32) (s0 : Int32) (M : FM) (T : Ty M) (n_a0 : fm_is M 96 96 a0 = true) (h : HX99_multiplied_82 a0 a1 a2 a5 a6 s0 M) : gd (FX99_multiplied_82 fN a0 a1 a2 a5 a6 s0 M) (GX99_multiplied_82 a0 a1 a2 a5 a6 s0 M) (OkR M) := by
  delta FX99_multiplied_82 BX99_multiplied_82
  refine gd_fi (fun c0_0 => ?_) (fun c0_0 => ?_)
  · exact gd_tR (ext_r _) (gX99_multiplied_100 _ _ _ _ _ _ _ ⟨T.1, T.2⟩ n_a0 (h.1 c0_0))
  · refine gd_fi (fun c1_0 => ?_) (fun c1_0 => ?_)
    · exact gd_tR (ext_r _) (gX99_multiplied_100 _ _ _ _ _ _ _ ⟨T.1, T.2⟩ n_a0 ((h.2 c0_0).1 c1_0))
    · refine gd_c n_a0 ?_
      refine gd_b (gX99_invalid _ _ _ ⟨T.1, T.2⟩ n_a0 ) (fun K2 => ?_)
      exact ⟨rfl, ⟨K2.1.1, K2.1.2⟩, K2.2⟩
noncomputable def GX99_multiplied_77 (a0 : Nat) (a1 : Int32) (a2 : Int32) (a5 : Int32) (a6 : Int32) (M : FM) : Int64 × FM :=
  GX99_multiplied_82 a0 a1 a2 a5 a6 (Int32.ofInt 1) M
def HX99_multiplied_77 (a0 : Nat) (a1 : Int32) (a2 : Int32) (a5 : Int32) (a6 : Int32) (M : FM) : Prop := HX99_multiplied_82 a0 a1 a2 a5 a6 (Int32.ofInt 1) M
theorem gX99_multiplied_77 (a0 : Nat) (a1 : Int32) (a2 : Int32) (a5 : Int32) (a6 : Int32) (M : FM) (T : Ty M) (n_a0 : fm_is M 96 96 a0 = true) (h : HX99_multiplied_77 a0 a1 a2 a5 a6 M) : gd (FX99_multiplied_77 fN a0 a1 a2 a5 a6 M) (GX99_multiplied_77 a0 a1 a2 a5 a6 M) (OkR M) := by
  delta FX99_multiplied_77 BX99_multiplied_77
  exact gd_tR (ext_r _) (gX99_multiplied_82 _ _ _ _ _ _ _ ⟨T.1, T.2⟩ n_a0 h)
noncomputable def GX99_multiplied_57 (a0 : Nat) (a1 : Int32) (a2 : Int32) (a5 : Int32) (s0 : Int32) (M : FM) : Int64 × FM :=
  let x1 : Nat := (M.2.2 375 a0 0)
  fi ((M.1 3 x1 (Int32.ofInt 0).toNatClampNeg) = 0) (
    GX99_multiplied_77 a0 a1 a2 a5 s0 M) (
    let x2 : Nat := (M.2.2 375 a0 0)
    fi ((M.1 3 x2 (Int32.ofInt 1).toNatClampNeg) = 0) (
      GX99_multiplied_77 a0 a1 a2 a5 s0 M) (
      GX99_multiplied_82 a0 a1 a2 a5 s0 (Int32.ofInt 0) M))
def HX99_multiplied_57 (a0 : Nat) (a1 : Int32) (a2 : Int32) (a5 : Int32) (s0 : Int32) (M : FM) : Prop := let x1 : Nat := (M.2.2 375 a0 0); (((M.1 3 x1 (Int32.ofInt 0).toNatClampNeg) = 0 → HX99_multiplied_77 a0 a1 a2 a5 s0 M) ∧ (¬ ((M.1 3 x1 (Int32.ofInt 0).toNatClampNeg) = 0) → let x2 : Nat := (M.2.2 375 a0 0); (((M.1 3 x2 (Int32.ofInt 1).toNatClampNeg) = 0 → HX99_multiplied_77 a0 a1 a2 a5 s0 M) ∧ (¬ ((M.1 3 x2 (Int32.ofInt 1).toNatClampNeg) = 0) → HX99_multiplied_82 a0 a1 a2 a5 s0 (Int32.ofInt 0) M))))
theorem gX99_multiplied_57 (a0 : Nat) (a1 : Int32) (a2 : Int32) (a5 : Int32) (s0 : Int32) (M : FM) (T : Ty M) (n_a0 : fm_is M 96 96 a0 = true) (h : HX99_multiplied_57 a0 a1 a2 a5 s0 M) : gd (FX99_multiplied_57 fN a0 a1 a2 a5 s0 M) (GX99_multiplied_57 a0 a1 a2 a5 s0 M) (OkR M) := by
  delta FX99_multiplied_57 BX99_multiplied_57
  refine gd_c n_a0 ?_
  have f4 := (tN_375 T.1 n_a0)
  have f5 := (fm_inl (i := (Int32.ofInt 0)) (tL_375 T.1 n_a0) (by decide))
  refine gd_c ⟨f4, f5⟩ ?_
  refine gd_fi (fun c0_0 => ?_) (fun c0_0 => ?_)
  · exact gd_tR (ext_r _) (gX99_multiplied_77 _ _ _ _ _ _ ⟨T.1, T.2⟩ n_a0 (h.1 c0_0))
  · refine gd_c n_a0 ?_
    have f2 := (tN_375 T.1 n_a0)
    have f3 := (fm_inl (i := (Int32.ofInt 1)) (tL_375 T.1 n_a0) (by decide))
    refine gd_c ⟨f2, f3⟩ ?_
    refine gd_fi (fun c1_0 => ?_) (fun c1_0 => ?_)
    · exact gd_tR (ext_r _) (gX99_multiplied_77 _ _ _ _ _ _ ⟨T.1, T.2⟩ n_a0 ((h.2 c0_0).1 c1_0))
    · exact gd_tR (ext_r _) (gX99_multiplied_82 _ _ _ _ _ _ _ ⟨T.1, T.2⟩ n_a0 ((h.2 c0_0).2 c1_0))
noncomputable def GX99_multiplied_52 (a0 : Nat) (a1 : Int32) (a2 : Int32) (a5 : Int32) (M : FM) : Int64 × FM :=
  GX99_multiplied_57 a0 a1 a2 a5 (Int32.ofInt 1) M
def HX99_multiplied_52 (a0 : Nat) (a1 : Int32) (a2 : Int32) (a5 : Int32) (M : FM) : Prop := HX99_multiplied_57 a0 a1 a2 a5 (Int32.ofInt 1) M
theorem gX99_multiplied_52 (a0 : Nat) (a1 : Int32) (a2 : Int32) (a5 : Int32) (M : FM) (T : Ty M) (n_a0 : fm_is M 96 96 a0 = true) (h : HX99_multiplied_52 a0 a1 a2 a5 M) : gd (FX99_multiplied_52 fN a0 a1 a2 a5 M) (GX99_multiplied_52 a0 a1 a2 a5 M) (OkR M) := by
  delta FX99_multiplied_52 BX99_multiplied_52
  exact gd_tR (ext_r _) (gX99_multiplied_57 _ _ _ _ _ _ ⟨T.1, T.2⟩ n_a0 h)
noncomputable def GX99_multiplied_0 (a0 : Nat) (a1 : Int32) (a2 : Int32) (M : FM) : Int64 × FM :=
  let r1 : Int64 × FM := GX99_none a0 (Int32.ofInt 2) a1 M
  fi ((lg_cmp r1.1 (Int64.ofInt (-1))) = 0) (
    let x2 : Nat := (r1.2.2.2 376 a0 0)
    let x3 : Nat := (r1.2.2.2 376 a0 0)
    let x4 : Int32 := ((r1.2.1 3 x2 (Int32.ofInt 0).toNatClampNeg) ^^^ (r1.2.1 3 x3 (Int32.ofInt 1).toNatClampNeg))
    let x5 : Nat := (r1.2.2.2 375 a0 0)
    fi ((r1.2.1 3 x5 (Int32.ofInt 0).toNatClampNeg) = (Int32.ofInt 2)) (
      GX99_multiplied_52 a0 a1 a2 x4 r1.2) (
      let x6 : Nat := (r1.2.2.2 375 a0 0)
      fi ((r1.2.1 3 x6 (Int32.ofInt 1).toNatClampNeg) = (Int32.ofInt 2)) (
        GX99_multiplied_52 a0 a1 a2 x4 r1.2) (
        GX99_multiplied_57 a0 a1 a2 x4 (Int32.ofInt 0) r1.2))) (
    (r1.1, r1.2))
def HX99_multiplied_0 (a0 : Nat) (a1 : Int32) (a2 : Int32) (M : FM) : Prop := (HX99_none a0 (Int32.ofInt 2) a1 M ∧ let r1 : Int64 × FM := GX99_none a0 (Int32.ofInt 2) a1 M; (((lg_cmp r1.1 (Int64.ofInt (-1))) = 0 → let x2 : Nat := (r1.2.2.2 376 a0 0); let x3 : Nat := (r1.2.2.2 376 a0 0); let x4 : Int32 := ((r1.2.1 3 x2 (Int32.ofInt 0).toNatClampNeg) ^^^ (r1.2.1 3 x3 (Int32.ofInt 1).toNatClampNeg)); let x5 : Nat := (r1.2.2.2 375 a0 0); (((r1.2.1 3 x5 (Int32.ofInt 0).toNatClampNeg) = (Int32.ofInt 2) → HX99_multiplied_52 a0 a1 a2 x4 r1.2) ∧ (¬ ((r1.2.1 3 x5 (Int32.ofInt 0).toNatClampNeg) = (Int32.ofInt 2)) → let x6 : Nat := (r1.2.2.2 375 a0 0); (((r1.2.1 3 x6 (Int32.ofInt 1).toNatClampNeg) = (Int32.ofInt 2) → HX99_multiplied_52 a0 a1 a2 x4 r1.2) ∧ (¬ ((r1.2.1 3 x6 (Int32.ofInt 1).toNatClampNeg) = (Int32.ofInt 2)) → HX99_multiplied_57 a0 a1 a2 x4 (Int32.ofInt 0) r1.2))))) ∧ (¬ ((lg_cmp r1.1 (Int64.ofInt (-1))) = 0) → True)))
theorem gX99_multiplied_0 (a0 : Nat) (a1 : Int32) (a2 : Int32) (M : FM) (T : Ty M) (n_a0 : fm_is M 96 96 a0 = true) (h : HX99_multiplied_0 a0 a1 a2 M) : gd (FX99_multiplied_0 fN a0 a1 a2 M) (GX99_multiplied_0 a0 a1 a2 M) (OkR M) := by
  delta FX99_multiplied_0 BX99_multiplied_0
  refine gd_c n_a0 ?_
  refine gd_b (gX99_none _ _ _ _ h.1) (fun K0 => ?_)
  refine gd_fi (fun c1_0 => ?_) (fun c1_0 => ?_)
  · have f2 := (ext_is K0.2 (Nat.zero_lt_succ _) n_a0)
    refine gd_c f2 ?_
    have f17 := (tN_376 K0.1.1 (ext_is K0.2 (Nat.zero_lt_succ _) n_a0))
    have f18 := (fm_inl (i := (Int32.ofInt 0)) (tL_376 K0.1.1 (ext_is K0.2 (Nat.zero_lt_succ _) n_a0)) (by decide))
    refine gd_c ⟨f17, f18⟩ ?_
    have f3 := (ext_is K0.2 (Nat.zero_lt_succ _) n_a0)
    refine gd_c f3 ?_
    have f15 := (tN_376 K0.1.1 (ext_is K0.2 (Nat.zero_lt_succ _) n_a0))
    have f16 := (fm_inl (i := (Int32.ofInt 1)) (tL_376 K0.1.1 (ext_is K0.2 (Nat.zero_lt_succ _) n_a0)) (by decide))
    refine gd_c ⟨f15, f16⟩ ?_
    have f4 := (ext_is K0.2 (Nat.zero_lt_succ _) n_a0)
    refine gd_c f4 ?_
    have f13 := (tN_375 K0.1.1 (ext_is K0.2 (Nat.zero_lt_succ _) n_a0))
    have f14 := (fm_inl (i := (Int32.ofInt 0)) (tL_375 K0.1.1 (ext_is K0.2 (Nat.zero_lt_succ _) n_a0)) (by decide))
    refine gd_c ⟨f13, f14⟩ ?_
    refine gd_fi (fun c5_0 => ?_) (fun c5_0 => ?_)
    · have f6 := (ext_is K0.2 (Nat.zero_lt_succ _) n_a0)
      exact gd_tR K0.2 (gX99_multiplied_52 _ _ _ _ _ ⟨K0.1.1, K0.1.2⟩ f6 ((h.2.1 c1_0).1 c5_0))
    · have f7 := (ext_is K0.2 (Nat.zero_lt_succ _) n_a0)
      refine gd_c f7 ?_
      have f11 := (tN_375 K0.1.1 (ext_is K0.2 (Nat.zero_lt_succ _) n_a0))
      have f12 := (fm_inl (i := (Int32.ofInt 1)) (tL_375 K0.1.1 (ext_is K0.2 (Nat.zero_lt_succ _) n_a0)) (by decide))
      refine gd_c ⟨f11, f12⟩ ?_
      refine gd_fi (fun c8_0 => ?_) (fun c8_0 => ?_)
      · have f9 := (ext_is K0.2 (Nat.zero_lt_succ _) n_a0)
        exact gd_tR K0.2 (gX99_multiplied_52 _ _ _ _ _ ⟨K0.1.1, K0.1.2⟩ f9 (((h.2.1 c1_0).2 c5_0).1 c8_0))
      · have f10 := (ext_is K0.2 (Nat.zero_lt_succ _) n_a0)
        exact gd_tR K0.2 (gX99_multiplied_57 _ _ _ _ _ _ ⟨K0.1.1, K0.1.2⟩ f10 (((h.2.1 c1_0).2 c5_0).2 c8_0))
  · exact ⟨rfl, ⟨K0.1.1, K0.1.2⟩, K0.2⟩
noncomputable def GX99_multiplied (a0 : Nat) (a1 : Int32) (a2 : Int32) (M : FM) : Int64 × FM := GX99_multiplied_0 a0 a1 a2 M
def HX99_multiplied (a0 : Nat) (a1 : Int32) (a2 : Int32) (M : FM) : Prop := HX99_multiplied_0 a0 a1 a2 M
theorem gX99_multiplied (a0 : Nat) (a1 : Int32) (a2 : Int32) (M : FM) (T : Ty M) (n_a0 : fm_is M 96 96 a0 = true) (h : HX99_multiplied a0 a1 a2 M) : gd (FX99_multiplied fN a0 a1 a2 M) (GX99_multiplied a0 a1 a2 M) (OkR M) := gX99_multiplied_0 a0 a1 a2 M T n_a0 h
def kX99_divided (k178 : Nat → Int32 → Int32 → Int32 → Int64 → Int32 → FM → Option (Int64 × FM)) : (Nat × Int32 × Int32 × Int32 × Int64 × Int32 × FM) ⊕ (Int64 × FM) → Option (Int64 × FM)
  | .inl (v0, v1, v2, v3, v4, v5, M') => k178 v0 v1 v2 v3 v4 v5 M'
  | .inr (r) => some r
def pX99_divided (M : FM) : (Nat × Int32 × Int32 × Int32 × Int64 × Int32 × FM) ⊕ (Int64 × FM) → Prop
  | .inl (_, _, _, _, _, _, M') => OkV M M'
  | .inr (r) => OkR M r
theorem pX99_divided_t {M M1 : FM} (e : Ext M M1) : ∀ y, pX99_divided M1 y → pX99_divided M y
  | .inl (_, _, _, _, _, _, _), h => ⟨h.1, ext_tr e h.2⟩
  | .inr (r), h => ⟨h.1, ext_tr e h.2⟩
noncomputable def GX99_divided_279 (a0 : Nat) (a1 : Int32) (a2 : Int32) (a5 : Int32) (s0 : Nat) (s1 : Int32) (M : FM) : (Nat × Int32 × Int32 × Int32 × Int64 × Int32 × FM) ⊕ (Int64 × FM) :=
  let M1 : FM := fm_sI M 381 s0 0 s1
  let M2 : FM := fm_sI M1 382 a0 0 a5
  let x3 : Nat := (M2.2.2 378 a0 0)
  let x4 : Nat := (M2.2.2 378 a0 0)
  let M5 : FM := fm_sI M2 383 a0 0 (((M2.1 3 x3 (Int32.ofInt 0).toNatClampNeg) - (Int32.ofInt 120)) - (M2.1 3 x4 (Int32.ofInt 1).toNatClampNeg))
  let r6 : Int64 × FM := GX99_rounded a0 a1 a2 M5
  (.inr (r6.1, r6.2))
def HX99_divided_279 (a0 : Nat) (a1 : Int32) (a2 : Int32) (a5 : Int32) (s0 : Nat) (s1 : Int32) (M : FM) : Prop := let M1 : FM := fm_sI M 381 s0 0 s1; let M2 : FM := fm_sI M1 382 a0 0 a5; let x3 : Nat := (M2.2.2 378 a0 0); let x4 : Nat := (M2.2.2 378 a0 0); let M5 : FM := fm_sI M2 383 a0 0 (((M2.1 3 x3 (Int32.ofInt 0).toNatClampNeg) - (Int32.ofInt 120)) - (M2.1 3 x4 (Int32.ofInt 1).toNatClampNeg)); (HX99_rounded a0 a1 a2 M5 ∧ True)
theorem gX99_divided_279 (k178 : Nat → Int32 → Int32 → Int32 → Int64 → Int32 → FM → Option (Int64 × FM)) (a0 : Nat) (a1 : Int32) (a2 : Int32) (a5 : Int32) (s0 : Nat) (s1 : Int32) (M : FM) (T : Ty M) (n_s0 : fm_is M 96 96 s0 = true) (z_s1 : s1 = 0 ∨ s1 = 1) (n_a0 : fm_is M 96 96 a0 = true) (h : HX99_divided_279 a0 a1 a2 a5 s0 s1 M) : gs (FX99_divided_279 fN k178 a0 a1 a2 a5 s0 s1 M) (GX99_divided_279 a0 a1 a2 a5 s0 s1 M) (kX99_divided k178) (pX99_divided M) := by
  delta FX99_divided_279 BX99_divided_279
  refine gs_c n_s0 ?_
  refine gs_c z_s1 ?_
  refine gs_c n_a0 ?_
  refine gs_c n_a0 ?_
  have f3 := (tN_378 T.1 n_a0)
  have f4 := (fm_inl (i := (Int32.ofInt 0)) (tL_378 T.1 n_a0) (by decide))
  refine gs_c ⟨f3, f4⟩ ?_
  refine gs_c n_a0 ?_
  have f1 := (tN_378 T.1 n_a0)
  have f2 := (fm_inl (i := (Int32.ofInt 1)) (tL_378 T.1 n_a0) (by decide))
  refine gs_c ⟨f1, f2⟩ ?_
  refine gs_c n_a0 ?_
  refine gs_c n_a0 ?_
  refine gs_b (gX99_rounded _ _ _ _ ⟨T.1, (tyb_sI (f := 383) rfl (tyb_sI (f := 382) rfl (tyb_sIb (f := 381) rfl T.2 z_s1)))⟩ n_a0 h.1) (fun K0 => ?_)
  exact And.intro rfl (And.intro (And.intro K0.1.1 K0.1.2) ((ext_dI (ext_dI (ext_dI K0.2)))))
noncomputable def GX99_divided_260 (a0 : Nat) (a1 : Int32) (a2 : Int32) (a5 : Int32) (a6 : Int64) (a8 : Int32) (M : FM) : (Nat × Int32 × Int32 × Int32 × Int64 × Int32 × FM) ⊕ (Int64 × FM) :=
  let x1 : Int32 := a8 + (Int32.ofInt (-1))
  (.inl (a0, a1, a2, a5, a6, x1, M))
theorem gX99_divided_260 (k178 : Nat → Int32 → Int32 → Int32 → Int64 → Int32 → FM → Option (Int64 × FM)) (a0 : Nat) (a1 : Int32) (a2 : Int32) (a5 : Int32) (a6 : Int64) (a8 : Int32) (M : FM) (T : Ty M) : gs (FX99_divided_260 fN k178 a0 a1 a2 a5 a6 a8 M) (GX99_divided_260 a0 a1 a2 a5 a6 a8 M) (kX99_divided k178) (pX99_divided M) := by
  delta FX99_divided_260 BX99_divided_260
  exact And.intro rfl (And.intro (And.intro T.1 T.2) ((ext_r _)))
noncomputable def GX99_divided_206 (a0 : Nat) (a1 : Int32) (a2 : Int32) (a5 : Int32) (a8 : Int32) (s0 : Int64) (s1 : Int64) (M : FM) : (Nat × Int32 × Int32 × Int32 × Int64 × Int32 × FM) ⊕ (Int64 × FM) :=
  let x1 : Int64 := (s0 + s1)
  let x2 : Nat := (M.2.2 377 a0 0)
  fi ((lg_cmp x1 (M.2.1 3 x2 (Int32.ofInt 1).toNatClampNeg)) < 0) (
    GX99_divided_260 a0 a1 a2 a5 x1 a8 M) (
    let x3 : Nat := (M.2.2 377 a0 0)
    let x4 : Int64 := (x1 - (M.2.1 3 x3 (Int32.ofInt 1).toNatClampNeg))
    let x5 : Int32 := (a8 / (Int32.ofInt 16))
    let x6 : Nat := (M.2.2 379 a0 0)
    let x7 : Int32 := (a8 / (Int32.ofInt 16))
    let x8 : Nat := (M.2.2 379 a0 0)
    let M9 : FM := fm_sI M 3 x8 x7.toNatClampNeg ((M.1 3 x6 x5.toNatClampNeg) ||| ((Int32.ofInt 1) <<< ((a8 - a8 / (Int32.ofInt 16) * (Int32.ofInt 16)) &&& 31)))
    GX99_divided_260 a0 a1 a2 a5 x4 a8 M9)
def HX99_divided_206 (a0 : Nat) (a1 : Int32) (a2 : Int32) (a5 : Int32) (a8 : Int32) (s0 : Int64) (s1 : Int64) (M : FM) : Prop := let x1 : Int64 := (s0 + s1); let x2 : Nat := (M.2.2 377 a0 0); (((lg_cmp x1 (M.2.1 3 x2 (Int32.ofInt 1).toNatClampNeg)) < 0 → True) ∧ (¬ ((lg_cmp x1 (M.2.1 3 x2 (Int32.ofInt 1).toNatClampNeg)) < 0) → let x3 : Nat := (M.2.2 377 a0 0); let x4 : Int64 := (x1 - (M.2.1 3 x3 (Int32.ofInt 1).toNatClampNeg)); let x5 : Int32 := (a8 / (Int32.ofInt 16)); let x6 : Nat := (M.2.2 379 a0 0); (fm_in M x6 x5 = true ∧ let x7 : Int32 := (a8 / (Int32.ofInt 16)); let x8 : Nat := (M.2.2 379 a0 0); (fm_in M x8 x7 = true ∧ True))))
theorem gX99_divided_206 (k178 : Nat → Int32 → Int32 → Int32 → Int64 → Int32 → FM → Option (Int64 × FM)) (a0 : Nat) (a1 : Int32) (a2 : Int32) (a5 : Int32) (a8 : Int32) (s0 : Int64) (s1 : Int64) (M : FM) (T : Ty M) (n_a0 : fm_is M 96 96 a0 = true) (h : HX99_divided_206 a0 a1 a2 a5 a8 s0 s1 M) : gs (FX99_divided_206 fN k178 a0 a1 a2 a5 a8 s0 s1 M) (GX99_divided_206 a0 a1 a2 a5 a8 s0 s1 M) (kX99_divided k178) (pX99_divided M) := by
  delta FX99_divided_206 BX99_divided_206
  refine gs_c n_a0 ?_
  have f5 := (tN_377 T.1 n_a0)
  have f6 := (fm_inl (i := (Int32.ofInt 1)) (tL_377 T.1 n_a0) (by decide))
  refine gs_c ⟨f5, f6⟩ ?_
  refine gs_fi (fun c0_0 => ?_) (fun c0_0 => ?_)
  · exact gs_t (pX99_divided_t (ext_r _)) (gX99_divided_260 k178 _ _ _ _ _ _ _ ⟨T.1, T.2⟩  )
  · refine gs_c n_a0 ?_
    have f3 := (tN_377 T.1 n_a0)
    have f4 := (fm_inl (i := (Int32.ofInt 1)) (tL_377 T.1 n_a0) (by decide))
    refine gs_c ⟨f3, f4⟩ ?_
    refine gs_c n_a0 ?_
    refine gs_n (by decide) ?_
    refine gs_c n_a0 ?_
    refine gs_n (by decide) ?_
    have f2 := (tN_379 T.1 n_a0)
    refine gs_c ⟨f2, (h.2 c0_0).1⟩ ?_
    refine gs_n (by decide) ?_
    have f1 := (tN_379 T.1 n_a0)
    refine gs_c ⟨f1, (h.2 c0_0).2.1⟩ ?_
    exact gs_t (pX99_divided_t (ext_dI (ext_r _))) (gX99_divided_260 k178 _ _ _ _ _ _ _ ⟨T.1, (tyb_s3 (t := 901) rfl T.2 f1)⟩  )
noncomputable def GX99_divided_132 (a0 : Nat) (a1 : Int32) (a5 : Int32) (M : FM) : (Nat × Int32 × Int32 × Int32 × Int64 × Int32 × FM) ⊕ (Int64 × FM) :=
  let r1 : Int64 × FM := GX99_zero a0 a5 a1 M
  (.inr (r1.1, r1.2))
theorem gX99_divided_132 (k178 : Nat → Int32 → Int32 → Int32 → Int64 → Int32 → FM → Option (Int64 × FM)) (a0 : Nat) (a1 : Int32) (a5 : Int32) (M : FM) (T : Ty M) (n_a0 : fm_is M 96 96 a0 = true) : gs (FX99_divided_132 fN k178 a0 a1 a5 M) (GX99_divided_132 a0 a1 a5 M) (kX99_divided k178) (pX99_divided M) := by
  delta FX99_divided_132 BX99_divided_132
  refine gs_c n_a0 ?_
  refine gs_b (gX99_zero _ _ _ _ ⟨T.1, T.2⟩  ) (fun K0 => ?_)
  exact And.intro rfl (And.intro (And.intro K0.1.1 K0.1.2) K0.2)
noncomputable def GX99_divided_98 (a0 : Nat) (a1 : Int32) (a5 : Int32) (M : FM) : (Nat × Int32 × Int32 × Int32 × Int64 × Int32 × FM) ⊕ (Int64 × FM) :=
  let x1 : Nat := (M.2.2 374 a0 0)
  let r2 : Int64 × FM := GX99_pack a5 ((M.1 3 x1 a1.toNatClampNeg).toInt64) (Int64.ofInt 0) a1 M
  (.inr (r2.1, r2.2))
def HX99_divided_98 (a0 : Nat) (a1 : Int32) (a5 : Int32) (M : FM) : Prop := let x1 : Nat := (M.2.2 374 a0 0); (fm_in M x1 a1 = true ∧ True)
theorem gX99_divided_98 (k178 : Nat → Int32 → Int32 → Int32 → Int64 → Int32 → FM → Option (Int64 × FM)) (a0 : Nat) (a1 : Int32) (a5 : Int32) (M : FM) (T : Ty M) (n_a0 : fm_is M 96 96 a0 = true) (h : HX99_divided_98 a0 a1 a5 M) : gs (FX99_divided_98 fN k178 a0 a1 a5 M) (GX99_divided_98 a0 a1 a5 M) (kX99_divided k178) (pX99_divided M) := by
  delta FX99_divided_98 BX99_divided_98
  refine gs_c n_a0 ?_
  have f1 := (tN_374 T.1 n_a0)
  refine gs_c ⟨f1, h.1⟩ ?_
  refine gs_b (gX99_pack _ _ _ _ _ ⟨T.1, T.2⟩  ) (fun K0 => ?_)
  exact And.intro rfl (And.intro (And.intro K0.1.1 K0.1.2) K0.2)
noncomputable def GX99_divided_82 (a0 : Nat) (a1 : Int32) (a5 : Int32) (M : FM) : (Nat × Int32 × Int32 × Int32 × Int64 × Int32 × FM) ⊕ (Int64 × FM) :=
  let x1 : Nat := (M.2.2 375 a0 0)
  fi ((M.1 3 x1 (Int32.ofInt 0).toNatClampNeg) = (Int32.ofInt 2)) (
    GX99_divided_98 a0 a1 a5 M) (
    let M2 : FM := GX99_raiseFlags a0 (Int32.ofInt 8) M
    GX99_divided_98 a0 a1 a5 M2)
def HX99_divided_82 (a0 : Nat) (a1 : Int32) (a5 : Int32) (M : FM) : Prop := let x1 : Nat := (M.2.2 375 a0 0); (((M.1 3 x1 (Int32.ofInt 0).toNatClampNeg) = (Int32.ofInt 2) → HX99_divided_98 a0 a1 a5 M) ∧ (¬ ((M.1 3 x1 (Int32.ofInt 0).toNatClampNeg) = (Int32.ofInt 2)) → let M2 : FM := GX99_raiseFlags a0 (Int32.ofInt 8) M; HX99_divided_98 a0 a1 a5 M2))
theorem gX99_divided_82 (k178 : Nat → Int32 → Int32 → Int32 → Int64 → Int32 → FM → Option (Int64 × FM)) (a0 : Nat) (a1 : Int32) (a5 : Int32) (M : FM) (T : Ty M) (n_a0 : fm_is M 96 96 a0 = true) (h : HX99_divided_82 a0 a1 a5 M) : gs (FX99_divided_82 fN k178 a0 a1 a5 M) (GX99_divided_82 a0 a1 a5 M) (kX99_divided k178) (pX99_divided M) := by
  delta FX99_divided_82 BX99_divided_82
  refine gs_c n_a0 ?_
  have f3 := (tN_375 T.1 n_a0)
  have f4 := (fm_inl (i := (Int32.ofInt 0)) (tL_375 T.1 n_a0) (by decide))
  refine gs_c ⟨f3, f4⟩ ?_
  refine gs_fi (fun c0_0 => ?_) (fun c0_0 => ?_)
  · exact gs_t (pX99_divided_t (ext_r _)) (gX99_divided_98 k178 _ _ _ _ ⟨T.1, T.2⟩ n_a0 (h.1 c0_0))
  · refine gs_c n_a0 ?_
    refine gs_b (gX99_raiseFlags _ _ _ ⟨T.1, T.2⟩ n_a0 ) (fun K1 => ?_)
    have f2 := (ext_is K1.2 (Nat.zero_lt_succ _) n_a0)
    exact gs_t (pX99_divided_t K1.2) (gX99_divided_98 k178 _ _ _ _ ⟨K1.1.1, K1.1.2⟩ f2 (h.2 c0_0))
noncomputable def GX99_divided_63 (a0 : Nat) (a1 : Int32) (a2 : Int32) (a5 : Int32) (M : FM) : (Nat × Int32 × Int32 × Int32 × Int64 × Int32 × FM) ⊕ (Int64 × FM) :=
  let x1 : Nat := (M.2.2 375 a0 0)
  fi ((M.1 3 x1 (Int32.ofInt 0).toNatClampNeg) = (Int32.ofInt 2)) (
    GX99_divided_82 a0 a1 a5 M) (
    let x2 : Nat := (M.2.2 375 a0 0)
    fi ((M.1 3 x2 (Int32.ofInt 1).toNatClampNeg) = 0) (
      GX99_divided_82 a0 a1 a5 M) (
      let x3 : Nat := (M.2.2 375 a0 0)
      fi ((M.1 3 x3 (Int32.ofInt 0).toNatClampNeg) = 0) (
        GX99_divided_132 a0 a1 a5 M) (
        let x4 : Nat := (M.2.2 375 a0 0)
        fi ((M.1 3 x4 (Int32.ofInt 1).toNatClampNeg) = (Int32.ofInt 2)) (
          GX99_divided_132 a0 a1 a5 M) (
          let x5 : Nat := (M.2.2 377 a0 0)
          let M6 : FM := GX99_put (M.2.2 380 a0 0) (M.2.1 3 x5 (Int32.ofInt 0).toNatClampNeg) M
          let M7 : FM := GX99_raise (M6.2.2 380 a0 0) (Int32.ofInt 120) M6
          let M8 : FM := GX99_put (M7.2.2 379 a0 0) (Int64.ofInt 0) M7
          (.inl (a0, a1, a2, a5, (Int64.ofInt 0), (Int32.ofInt 175), M8))))))
def HX99_divided_63 (a0 : Nat) (a1 : Int32) (a2 : Int32) (a5 : Int32) (M : FM) : Prop := let x1 : Nat := (M.2.2 375 a0 0); (((M.1 3 x1 (Int32.ofInt 0).toNatClampNeg) = (Int32.ofInt 2) → HX99_divided_82 a0 a1 a5 M) ∧ (¬ ((M.1 3 x1 (Int32.ofInt 0).toNatClampNeg) = (Int32.ofInt 2)) → let x2 : Nat := (M.2.2 375 a0 0); (((M.1 3 x2 (Int32.ofInt 1).toNatClampNeg) = 0 → HX99_divided_82 a0 a1 a5 M) ∧ (¬ ((M.1 3 x2 (Int32.ofInt 1).toNatClampNeg) = 0) → let x3 : Nat := (M.2.2 375 a0 0); (((M.1 3 x3 (Int32.ofInt 0).toNatClampNeg) = 0 → True) ∧ (¬ ((M.1 3 x3 (Int32.ofInt 0).toNatClampNeg) = 0) → let x4 : Nat := (M.2.2 375 a0 0); (((M.1 3 x4 (Int32.ofInt 1).toNatClampNeg) = (Int32.ofInt 2) → True) ∧ (¬ ((M.1 3 x4 (Int32.ofInt 1).toNatClampNeg) = (Int32.ofInt 2)) → let x5 : Nat := (M.2.2 377 a0 0); (HX99_put (M.2.2 380 a0 0) (M.2.1 3 x5 (Int32.ofInt 0).toNatClampNeg) M ∧ let M6 : FM := GX99_put (M.2.2 380 a0 0) (M.2.1 3 x5 (Int32.ofInt 0).toNatClampNeg) M; (HX99_raise (M6.2.2 380 a0 0) (Int32.ofInt 120) M6 ∧ let M7 : FM := GX99_raise (M6.2.2 380 a0 0) (Int32.ofInt 120) M6; (HX99_put (M7.2.2 379 a0 0) (Int64.ofInt 0) M7 ∧ True)))))))))))
theorem gX99_divided_63 (k178 : Nat → Int32 → Int32 → Int32 → Int64 → Int32 → FM → Option (Int64 × FM)) (a0 : Nat) (a1 : Int32) (a2 : Int32) (a5 : Int32) (M : FM) (T : Ty M) (n_a0 : fm_is M 96 96 a0 = true) (h : HX99_divided_63 a0 a1 a2 a5 M) : gs (FX99_divided_63 fN k178 a0 a1 a2 a5 M) (GX99_divided_63 a0 a1 a2 a5 M) (kX99_divided k178) (pX99_divided M) := by
  delta FX99_divided_63 BX99_divided_63
  refine gs_c n_a0 ?_
  have f17 := (tN_375 T.1 n_a0)
  have f18 := (fm_inl (i := (Int32.ofInt 0)) (tL_375 T.1 n_a0) (by decide))
  refine gs_c ⟨f17, f18⟩ ?_
  refine gs_fi (fun c0_0 => ?_) (fun c0_0 => ?_)
  · exact gs_t (pX99_divided_t (ext_r _)) (gX99_divided_82 k178 _ _ _ _ ⟨T.1, T.2⟩ n_a0 (h.1 c0_0))
  · refine gs_c n_a0 ?_
    have f15 := (tN_375 T.1 n_a0)
    have f16 := (fm_inl (i := (Int32.ofInt 1)) (tL_375 T.1 n_a0) (by decide))
    refine gs_c ⟨f15, f16⟩ ?_
    refine gs_fi (fun c1_0 => ?_) (fun c1_0 => ?_)
    · exact gs_t (pX99_divided_t (ext_r _)) (gX99_divided_82 k178 _ _ _ _ ⟨T.1, T.2⟩ n_a0 ((h.2 c0_0).1 c1_0))
    · refine gs_c n_a0 ?_
      have f13 := (tN_375 T.1 n_a0)
      have f14 := (fm_inl (i := (Int32.ofInt 0)) (tL_375 T.1 n_a0) (by decide))
      refine gs_c ⟨f13, f14⟩ ?_
      refine gs_fi (fun c2_0 => ?_) (fun c2_0 => ?_)
      · exact gs_t (pX99_divided_t (ext_r _)) (gX99_divided_132 k178 _ _ _ _ ⟨T.1, T.2⟩ n_a0 )
      · refine gs_c n_a0 ?_
        have f11 := (tN_375 T.1 n_a0)
        have f12 := (fm_inl (i := (Int32.ofInt 1)) (tL_375 T.1 n_a0) (by decide))
        refine gs_c ⟨f11, f12⟩ ?_
        refine gs_fi (fun c3_0 => ?_) (fun c3_0 => ?_)
        · exact gs_t (pX99_divided_t (ext_r _)) (gX99_divided_132 k178 _ _ _ _ ⟨T.1, T.2⟩ n_a0 )
        · refine gs_c n_a0 ?_
          refine gs_c n_a0 ?_
          have f9 := (tN_377 T.1 n_a0)
          have f10 := (fm_inl (i := (Int32.ofInt 0)) (tL_377 T.1 n_a0) (by decide))
          refine gs_c ⟨f9, f10⟩ ?_
          refine gs_b (gX99_put _ _ _ ((((h.2 c0_0).2 c1_0).2 c2_0).2 c3_0).1) (fun K4 => ?_)
          have f5 := (ext_is K4.2 (Nat.zero_lt_succ _) n_a0)
          refine gs_c f5 ?_
          refine gs_b (gX99_raise _ _ _ ((((h.2 c0_0).2 c1_0).2 c2_0).2 c3_0).2.1) (fun K6 => ?_)
          have f7 := (ext_is K6.2 (Nat.zero_lt_succ _) (ext_is K4.2 (Nat.zero_lt_succ _) n_a0))
          refine gs_c f7 ?_
          refine gs_b (gX99_put _ _ _ ((((h.2 c0_0).2 c1_0).2 c2_0).2 c3_0).2.2.1) (fun K8 => ?_)
          exact And.intro rfl (And.intro (And.intro K8.1.1 K8.1.2) ((ext_tr K4.2 (ext_tr K6.2 K8.2))))
noncomputable def GX99_divided_0 (a0 : Nat) (a1 : Int32) (a2 : Int32) (M : FM) : (Nat × Int32 × Int32 × Int32 × Int64 × Int32 × FM) ⊕ (Int64 × FM) :=
  let r1 : Int64 × FM := GX99_none a0 (Int32.ofInt 2) a1 M
  fi ((lg_cmp r1.1 (Int64.ofInt (-1))) = 0) (
    let x2 : Nat := (r1.2.2.2 376 a0 0)
    let x3 : Nat := (r1.2.2.2 376 a0 0)
    let x4 : Int32 := ((r1.2.1 3 x2 (Int32.ofInt 0).toNatClampNeg) ^^^ (r1.2.1 3 x3 (Int32.ofInt 1).toNatClampNeg))
    let x5 : Nat := (r1.2.2.2 375 a0 0)
    let x6 : Nat := (r1.2.2.2 375 a0 0)
    fi ((r1.2.1 3 x5 (Int32.ofInt 0).toNatClampNeg) = (r1.2.1 3 x6 (Int32.ofInt 1).toNatClampNeg)) (
      let x7 : Nat := (r1.2.2.2 375 a0 0)
      fi ((r1.2.1 3 x7 (Int32.ofInt 0).toNatClampNeg) = (Int32.ofInt 1)) (
        GX99_divided_63 a0 a1 a2 x4 r1.2) (
        let r8 : Int64 × FM := GX99_invalid a0 a1 r1.2
        (.inr (r8.1, r8.2)))) (
      GX99_divided_63 a0 a1 a2 x4 r1.2)) (
    (.inr (r1.1, r1.2)))
def HX99_divided_0 (a0 : Nat) (a1 : Int32) (a2 : Int32) (M : FM) : Prop := (HX99_none a0 (Int32.ofInt 2) a1 M ∧ let r1 : Int64 × FM := GX99_none a0 (Int32.ofInt 2) a1 M; (((lg_cmp r1.1 (Int64.ofInt (-1))) = 0 → let x2 : Nat := (r1.2.2.2 376 a0 0); let x3 : Nat := (r1.2.2.2 376 a0 0); let x4 : Int32 := ((r1.2.1 3 x2 (Int32.ofInt 0).toNatClampNeg) ^^^ (r1.2.1 3 x3 (Int32.ofInt 1).toNatClampNeg)); let x5 : Nat := (r1.2.2.2 375 a0 0); let x6 : Nat := (r1.2.2.2 375 a0 0); (((r1.2.1 3 x5 (Int32.ofInt 0).toNatClampNeg) = (r1.2.1 3 x6 (Int32.ofInt 1).toNatClampNeg) → let x7 : Nat := (r1.2.2.2 375 a0 0); (((r1.2.1 3 x7 (Int32.ofInt 0).toNatClampNeg) = (Int32.ofInt 1) → HX99_divided_63 a0 a1 a2 x4 r1.2) ∧ (¬ ((r1.2.1 3 x7 (Int32.ofInt 0).toNatClampNeg) = (Int32.ofInt 1)) → True))) ∧ (¬ ((r1.2.1 3 x5 (Int32.ofInt 0).toNatClampNeg) = (r1.2.1 3 x6 (Int32.ofInt 1).toNatClampNeg)) → HX99_divided_63 a0 a1 a2 x4 r1.2))) ∧ (¬ ((lg_cmp r1.1 (Int64.ofInt (-1))) = 0) → True)))
theorem gX99_divided_0 (k178 : Nat → Int32 → Int32 → Int32 → Int64 → Int32 → FM → Option (Int64 × FM)) (a0 : Nat) (a1 : Int32) (a2 : Int32) (M : FM) (T : Ty M) (n_a0 : fm_is M 96 96 a0 = true) (h : HX99_divided_0 a0 a1 a2 M) : gs (FX99_divided_0 fN k178 a0 a1 a2 M) (GX99_divided_0 a0 a1 a2 M) (kX99_divided k178) (pX99_divided M) := by
  delta FX99_divided_0 BX99_divided_0
  refine gs_c n_a0 ?_
  refine gs_b (gX99_none _ _ _ _ h.1) (fun K0 => ?_)
  refine gs_fi (fun c1_0 => ?_) (fun c1_0 => ?_)
  · have f2 := (ext_is K0.2 (Nat.zero_lt_succ _) n_a0)
    refine gs_c f2 ?_
    have f22 := (tN_376 K0.1.1 (ext_is K0.2 (Nat.zero_lt_succ _) n_a0))
    have f23 := (fm_inl (i := (Int32.ofInt 0)) (tL_376 K0.1.1 (ext_is K0.2 (Nat.zero_lt_succ _) n_a0)) (by decide))
    refine gs_c ⟨f22, f23⟩ ?_
    have f3 := (ext_is K0.2 (Nat.zero_lt_succ _) n_a0)
    refine gs_c f3 ?_
    have f20 := (tN_376 K0.1.1 (ext_is K0.2 (Nat.zero_lt_succ _) n_a0))
    have f21 := (fm_inl (i := (Int32.ofInt 1)) (tL_376 K0.1.1 (ext_is K0.2 (Nat.zero_lt_succ _) n_a0)) (by decide))
    refine gs_c ⟨f20, f21⟩ ?_
    have f4 := (ext_is K0.2 (Nat.zero_lt_succ _) n_a0)
    refine gs_c f4 ?_
    have f18 := (tN_375 K0.1.1 (ext_is K0.2 (Nat.zero_lt_succ _) n_a0))
    have f19 := (fm_inl (i := (Int32.ofInt 0)) (tL_375 K0.1.1 (ext_is K0.2 (Nat.zero_lt_succ _) n_a0)) (by decide))
    refine gs_c ⟨f18, f19⟩ ?_
    have f5 := (ext_is K0.2 (Nat.zero_lt_succ _) n_a0)
    refine gs_c f5 ?_
    have f16 := (tN_375 K0.1.1 (ext_is K0.2 (Nat.zero_lt_succ _) n_a0))
    have f17 := (fm_inl (i := (Int32.ofInt 1)) (tL_375 K0.1.1 (ext_is K0.2 (Nat.zero_lt_succ _) n_a0)) (by decide))
    refine gs_c ⟨f16, f17⟩ ?_
    refine gs_fi (fun c6_0 => ?_) (fun c6_0 => ?_)
    · have f7 := (ext_is K0.2 (Nat.zero_lt_succ _) n_a0)
      refine gs_c f7 ?_
      have f13 := (tN_375 K0.1.1 (ext_is K0.2 (Nat.zero_lt_succ _) n_a0))
      have f14 := (fm_inl (i := (Int32.ofInt 0)) (tL_375 K0.1.1 (ext_is K0.2 (Nat.zero_lt_succ _) n_a0)) (by decide))
      refine gs_c ⟨f13, f14⟩ ?_
      refine gs_fi (fun c8_0 => ?_) (fun c8_0 => ?_)
      · have f9 := (ext_is K0.2 (Nat.zero_lt_succ _) n_a0)
        exact gs_t (pX99_divided_t K0.2) (gX99_divided_63 k178 _ _ _ _ _ ⟨K0.1.1, K0.1.2⟩ f9 (((h.2.1 c1_0).1 c6_0).1 c8_0))
      · have f10 := (ext_is K0.2 (Nat.zero_lt_succ _) n_a0)
        refine gs_c f10 ?_
        have f12 := (ext_is K0.2 (Nat.zero_lt_succ _) n_a0)
        refine gs_b (gX99_invalid _ _ _ ⟨K0.1.1, K0.1.2⟩ f12 ) (fun K11 => ?_)
        exact And.intro rfl (And.intro (And.intro K11.1.1 K11.1.2) ((ext_tr K0.2 K11.2)))
    · have f15 := (ext_is K0.2 (Nat.zero_lt_succ _) n_a0)
      exact gs_t (pX99_divided_t K0.2) (gX99_divided_63 k178 _ _ _ _ _ ⟨K0.1.1, K0.1.2⟩ f15 ((h.2.1 c1_0).2 c6_0))
  · exact And.intro rfl (And.intro (And.intro K0.1.1 K0.1.2) K0.2)
noncomputable def GX99_divided_178 (a0 : Nat) (a1 : Int32) (a2 : Int32) (a5 : Int32) (a6 : Int64) (a8 : Int32) (M : FM) : (Nat × Int32 × Int32 × Int32 × Int64 × Int32 × FM) ⊕ (Int64 × FM) :=
  fi (a8 < 0) (
    fi ((lg_cmp a6 (Int64.ofInt 0)) ≤ 0) (
      GX99_divided_279 a0 a1 a2 a5 a0 (Int32.ofInt 0) M) (
      GX99_divided_279 a0 a1 a2 a5 a0 (Int32.ofInt 1) M)) (
    let r1 : Int32 × FM := GX99_bit (M.2.2 380 a0 0) a8 M
    fi (r1.1 = 0) (
      GX99_divided_206 a0 a1 a2 a5 a8 ((Int64.ofInt 2) * a6) (Int64.ofInt 0) r1.2) (
      GX99_divided_206 a0 a1 a2 a5 a8 ((Int64.ofInt 2) * a6) (Int64.ofInt 1) r1.2))
def HX99_divided_178 (a0 : Nat) (a1 : Int32) (a2 : Int32) (a5 : Int32) (a6 : Int64) (a8 : Int32) (M : FM) : Prop := ((a8 < 0 → (((lg_cmp a6 (Int64.ofInt 0)) ≤ 0 → HX99_divided_279 a0 a1 a2 a5 a0 (Int32.ofInt 0) M) ∧ (¬ ((lg_cmp a6 (Int64.ofInt 0)) ≤ 0) → HX99_divided_279 a0 a1 a2 a5 a0 (Int32.ofInt 1) M))) ∧ (¬ (a8 < 0) → (HX99_bit (M.2.2 380 a0 0) a8 M ∧ let r1 : Int32 × FM := GX99_bit (M.2.2 380 a0 0) a8 M; ((r1.1 = 0 → HX99_divided_206 a0 a1 a2 a5 a8 ((Int64.ofInt 2) * a6) (Int64.ofInt 0) r1.2) ∧ (¬ (r1.1 = 0) → HX99_divided_206 a0 a1 a2 a5 a8 ((Int64.ofInt 2) * a6) (Int64.ofInt 1) r1.2)))))
theorem gX99_divided_178 (k178 : Nat → Int32 → Int32 → Int32 → Int64 → Int32 → FM → Option (Int64 × FM)) (a0 : Nat) (a1 : Int32) (a2 : Int32) (a5 : Int32) (a6 : Int64) (a8 : Int32) (M : FM) (T : Ty M) (n_a0 : fm_is M 96 96 a0 = true) (h : HX99_divided_178 a0 a1 a2 a5 a6 a8 M) : gs (FX99_divided_178 fN k178 a0 a1 a2 a5 a6 a8 M) (GX99_divided_178 a0 a1 a2 a5 a6 a8 M) (kX99_divided k178) (pX99_divided M) := by
  delta FX99_divided_178 BX99_divided_178
  refine gs_fi (fun c0_0 => ?_) (fun c0_0 => ?_)
  · refine gs_fi (fun c1_0 => ?_) (fun c1_0 => ?_)
    · exact gs_t (pX99_divided_t (ext_r _)) (gX99_divided_279 k178 _ _ _ _ _ _ _ ⟨T.1, T.2⟩ n_a0 fz_0 n_a0 ((h.1 c0_0).1 c1_0))
    · exact gs_t (pX99_divided_t (ext_r _)) (gX99_divided_279 k178 _ _ _ _ _ _ _ ⟨T.1, T.2⟩ n_a0 fz_1 n_a0 ((h.1 c0_0).2 c1_0))
  · refine gs_c n_a0 ?_
    have f6 := (tN_380 T.1 n_a0)
    refine gs_b (gX99_bit _ _ _ ⟨T.1, T.2⟩ f6 (h.2 c0_0).1) (fun K2 => ?_)
    refine gs_fi (fun c3_0 => ?_) (fun c3_0 => ?_)
    · have f4 := (ext_is K2.2.1 (Nat.zero_lt_succ _) n_a0)
      exact gs_t (pX99_divided_t K2.2.1) (gX99_divided_206 k178 _ _ _ _ _ _ _ _ ⟨K2.1.1, K2.1.2⟩ f4 ((h.2 c0_0).2.1 c3_0))
    · have f5 := (ext_is K2.2.1 (Nat.zero_lt_succ _) n_a0)
      exact gs_t (pX99_divided_t K2.2.1) (gX99_divided_206 k178 _ _ _ _ _ _ _ _ ⟨K2.1.1, K2.1.2⟩ f5 ((h.2 c0_0).2.2 c3_0))
noncomputable def GX99_divided (a0 : Nat) (a1 : Int32) (a2 : Int32) (M : FM) : Int64 × FM := (FX99_divided fN a0 a1 a2 M).getD (0, M)
def HX99_divided (a0 : Nat) (a1 : Int32) (a2 : Int32) (M : FM) : Prop := ∃ r, FX99_divided fN a0 a1 a2 M = some r ∧ OkR M r
theorem gX99_divided (a0 : Nat) (a1 : Int32) (a2 : Int32) (M : FM) (h : HX99_divided a0 a1 a2 M) : gd (FX99_divided fN a0 a1 a2 M) (GX99_divided a0 a1 a2 M) (OkR M) := gd_op h
def kX99_root (k167 : Nat → Int32 → Int32 → Int32 → Int64 → Int64 → Int32 → FM → Option (Int64 × FM)) : (Nat × Int32 × Int32 × Int32 × Int64 × Int64 × Int32 × FM) ⊕ (Int64 × FM) → Option (Int64 × FM)
  | .inl (v0, v1, v2, v3, v4, v5, v6, M') => k167 v0 v1 v2 v3 v4 v5 v6 M'
  | .inr (r) => some r
def pX99_root (M : FM) : (Nat × Int32 × Int32 × Int32 × Int64 × Int64 × Int32 × FM) ⊕ (Int64 × FM) → Prop
  | .inl (_, _, _, _, _, _, _, M') => OkV M M'
  | .inr (r) => OkR M r
theorem pX99_root_t {M M1 : FM} (e : Ext M M1) : ∀ y, pX99_root M1 y → pX99_root M y
  | .inl (_, _, _, _, _, _, _, _), h => ⟨h.1, ext_tr e h.2⟩
  | .inr (r), h => ⟨h.1, ext_tr e h.2⟩
noncomputable def GX99_root_309 (a0 : Nat) (a1 : Int32) (a2 : Int32) (a5 : Int32) (s0 : Nat) (s1 : Int32) (M : FM) : (Nat × Int32 × Int32 × Int32 × Int64 × Int64 × Int32 × FM) ⊕ (Int64 × FM) :=
  let M1 : FM := fm_sI M 381 s0 0 s1
  let M2 : FM := fm_sI M1 382 a0 0 (Int32.ofInt 0)
  let x3 : Nat := (M2.2.2 378 a0 0)
  let M4 : FM := fm_sI M2 383 a0 0 (((M2.1 3 x3 (Int32.ofInt 0).toNatClampNeg) - a5) / (Int32.ofInt 2))
  let r5 : Int64 × FM := GX99_rounded a0 a1 a2 M4
  (.inr (r5.1, r5.2))
def HX99_root_309 (a0 : Nat) (a1 : Int32) (a2 : Int32) (a5 : Int32) (s0 : Nat) (s1 : Int32) (M : FM) : Prop := let M1 : FM := fm_sI M 381 s0 0 s1; let M2 : FM := fm_sI M1 382 a0 0 (Int32.ofInt 0); let x3 : Nat := (M2.2.2 378 a0 0); let M4 : FM := fm_sI M2 383 a0 0 (((M2.1 3 x3 (Int32.ofInt 0).toNatClampNeg) - a5) / (Int32.ofInt 2)); (HX99_rounded a0 a1 a2 M4 ∧ True)
theorem gX99_root_309 (k167 : Nat → Int32 → Int32 → Int32 → Int64 → Int64 → Int32 → FM → Option (Int64 × FM)) (a0 : Nat) (a1 : Int32) (a2 : Int32) (a5 : Int32) (s0 : Nat) (s1 : Int32) (M : FM) (T : Ty M) (n_s0 : fm_is M 96 96 s0 = true) (z_s1 : s1 = 0 ∨ s1 = 1) (n_a0 : fm_is M 96 96 a0 = true) (h : HX99_root_309 a0 a1 a2 a5 s0 s1 M) : gs (FX99_root_309 fN k167 a0 a1 a2 a5 s0 s1 M) (GX99_root_309 a0 a1 a2 a5 s0 s1 M) (kX99_root k167) (pX99_root M) := by
  delta FX99_root_309 BX99_root_309
  refine gs_c n_s0 ?_
  refine gs_c z_s1 ?_
  refine gs_c n_a0 ?_
  refine gs_c n_a0 ?_
  have f1 := (tN_378 T.1 n_a0)
  have f2 := (fm_inl (i := (Int32.ofInt 0)) (tL_378 T.1 n_a0) (by decide))
  refine gs_c ⟨f1, f2⟩ ?_
  refine gs_n (by decide) ?_
  refine gs_c n_a0 ?_
  refine gs_c n_a0 ?_
  refine gs_b (gX99_rounded _ _ _ _ ⟨T.1, (tyb_sI (f := 383) rfl (tyb_sI (f := 382) rfl (tyb_sIb (f := 381) rfl T.2 z_s1)))⟩ n_a0 h.1) (fun K0 => ?_)
  exact And.intro rfl (And.intro (And.intro K0.1.1 K0.1.2) ((ext_dI (ext_dI (ext_dI K0.2)))))
noncomputable def GX99_root_278 (a0 : Nat) (a1 : Int32) (a2 : Int32) (a5 : Int32) (a8 : Int64) (a10 : Int32) (s0 : Int64) (s1 : Int64) (M : FM) : (Nat × Int32 × Int32 × Int32 × Int64 × Int64 × Int32 × FM) ⊕ (Int64 × FM) :=
  let x1 : Int64 := (s0 + s1)
  let x2 : Int32 := a10 + (Int32.ofInt (-2))
  (.inl (a0, a1, a2, a5, x1, a8, x2, M))
theorem gX99_root_278 (k167 : Nat → Int32 → Int32 → Int32 → Int64 → Int64 → Int32 → FM → Option (Int64 × FM)) (a0 : Nat) (a1 : Int32) (a2 : Int32) (a5 : Int32) (a8 : Int64) (a10 : Int32) (s0 : Int64) (s1 : Int64) (M : FM) (T : Ty M) : gs (FX99_root_278 fN k167 a0 a1 a2 a5 a8 a10 s0 s1 M) (GX99_root_278 a0 a1 a2 a5 a8 a10 s0 s1 M) (kX99_root k167) (pX99_root M) := by
  delta FX99_root_278 BX99_root_278
  exact And.intro rfl (And.intro (And.intro T.1 T.2) ((ext_r _)))
noncomputable def GX99_root_260 (a0 : Nat) (a1 : Int32) (a2 : Int32) (a5 : Int32) (a6 : Int64) (a10 : Int32) (a13 : Int32) (s0 : Int64) (M : FM) : (Nat × Int32 × Int32 × Int32 × Int64 × Int64 × Int32 × FM) ⊕ (Int64 × FM) :=
  fi (a13 = 0) (
    GX99_root_278 a0 a1 a2 a5 s0 a10 ((Int64.ofInt 2) * a6) (Int64.ofInt 0) M) (
    GX99_root_278 a0 a1 a2 a5 s0 a10 ((Int64.ofInt 2) * a6) (Int64.ofInt 1) M)
theorem gX99_root_260 (k167 : Nat → Int32 → Int32 → Int32 → Int64 → Int64 → Int32 → FM → Option (Int64 × FM)) (a0 : Nat) (a1 : Int32) (a2 : Int32) (a5 : Int32) (a6 : Int64) (a10 : Int32) (a13 : Int32) (s0 : Int64) (M : FM) (T : Ty M) : gs (FX99_root_260 fN k167 a0 a1 a2 a5 a6 a10 a13 s0 M) (GX99_root_260 a0 a1 a2 a5 a6 a10 a13 s0 M) (kX99_root k167) (pX99_root M) := by
  delta FX99_root_260 BX99_root_260
  refine gs_fi (fun c0_0 => ?_) (fun c0_0 => ?_)
  · exact gs_t (pX99_root_t (ext_r _)) (gX99_root_278 k167 _ _ _ _ _ _ _ _ _ ⟨T.1, T.2⟩  )
  · exact gs_t (pX99_root_t (ext_r _)) (gX99_root_278 k167 _ _ _ _ _ _ _ _ _ ⟨T.1, T.2⟩  )
noncomputable def GX99_root_243 (a0 : Nat) (a1 : Int32) (a2 : Int32) (a5 : Int32) (a6 : Int64) (a8 : Int64) (a10 : Int32) (a11 : Int64) (s0 : Int32) (M : FM) : (Nat × Int32 × Int32 × Int32 × Int64 × Int64 × Int32 × FM) ⊕ (Int64 × FM) :=
  fi (s0 = 0) (
    GX99_root_260 a0 a1 a2 a5 a6 a10 s0 a8 M) (
    GX99_root_260 a0 a1 a2 a5 a6 a10 s0 (a8 - a11) M)
theorem gX99_root_243 (k167 : Nat → Int32 → Int32 → Int32 → Int64 → Int64 → Int32 → FM → Option (Int64 × FM)) (a0 : Nat) (a1 : Int32) (a2 : Int32) (a5 : Int32) (a6 : Int64) (a8 : Int64) (a10 : Int32) (a11 : Int64) (s0 : Int32) (M : FM) (T : Ty M) : gs (FX99_root_243 fN k167 a0 a1 a2 a5 a6 a8 a10 a11 s0 M) (GX99_root_243 a0 a1 a2 a5 a6 a8 a10 a11 s0 M) (kX99_root k167) (pX99_root M) := by
  delta FX99_root_243 BX99_root_243
  refine gs_fi (fun c0_0 => ?_) (fun c0_0 => ?_)
  · exact gs_t (pX99_root_t (ext_r _)) (gX99_root_260 k167 _ _ _ _ _ _ _ _ _ ⟨T.1, T.2⟩  )
  · exact gs_t (pX99_root_t (ext_r _)) (gX99_root_260 k167 _ _ _ _ _ _ _ _ _ ⟨T.1, T.2⟩  )
noncomputable def GX99_root_217 (a0 : Nat) (a1 : Int32) (a2 : Int32) (a5 : Int32) (a6 : Int64) (a10 : Int32) (s0 : Int64) (s1 : Int64) (M : FM) : (Nat × Int32 × Int32 × Int32 × Int64 × Int64 × Int32 × FM) ⊕ (Int64 × FM) :=
  let x1 : Int64 := (s0 + s1)
  let x2 : Int64 := (((Int64.ofInt 4) * a6) + (Int64.ofInt 1))
  fi ((lg_cmp x1 x2) < 0) (
    GX99_root_243 a0 a1 a2 a5 a6 x1 a10 x2 (Int32.ofInt 0) M) (
    GX99_root_243 a0 a1 a2 a5 a6 x1 a10 x2 (Int32.ofInt 1) M)
theorem gX99_root_217 (k167 : Nat → Int32 → Int32 → Int32 → Int64 → Int64 → Int32 → FM → Option (Int64 × FM)) (a0 : Nat) (a1 : Int32) (a2 : Int32) (a5 : Int32) (a6 : Int64) (a10 : Int32) (s0 : Int64) (s1 : Int64) (M : FM) (T : Ty M) : gs (FX99_root_217 fN k167 a0 a1 a2 a5 a6 a10 s0 s1 M) (GX99_root_217 a0 a1 a2 a5 a6 a10 s0 s1 M) (kX99_root k167) (pX99_root M) := by
  delta FX99_root_217 BX99_root_217
  refine gs_fi (fun c0_0 => ?_) (fun c0_0 => ?_)
  · exact gs_t (pX99_root_t (ext_r _)) (gX99_root_243 k167 _ _ _ _ _ _ _ _ _ _ ⟨T.1, T.2⟩  )
  · exact gs_t (pX99_root_t (ext_r _)) (gX99_root_243 k167 _ _ _ _ _ _ _ _ _ _ ⟨T.1, T.2⟩  )
noncomputable def GX99_root_199 (a0 : Nat) (a1 : Int32) (a2 : Int32) (a5 : Int32) (a6 : Int64) (a10 : Int32) (s0 : Int64) (s1 : Int64) (M : FM) : (Nat × Int32 × Int32 × Int32 × Int64 × Int64 × Int32 × FM) ⊕ (Int64 × FM) :=
  let r1 : Int32 × FM := GX99_bit (M.2.2 380 a0 0) a10 M
  fi (r1.1 = 0) (
    GX99_root_217 a0 a1 a2 a5 a6 a10 (s0 + s1) (Int64.ofInt 0) r1.2) (
    GX99_root_217 a0 a1 a2 a5 a6 a10 (s0 + s1) (Int64.ofInt 1) r1.2)
def HX99_root_199 (a0 : Nat) (a1 : Int32) (a2 : Int32) (a5 : Int32) (a6 : Int64) (a10 : Int32) (s0 : Int64) (s1 : Int64) (M : FM) : Prop := (HX99_bit (M.2.2 380 a0 0) a10 M ∧ True)
theorem gX99_root_199 (k167 : Nat → Int32 → Int32 → Int32 → Int64 → Int64 → Int32 → FM → Option (Int64 × FM)) (a0 : Nat) (a1 : Int32) (a2 : Int32) (a5 : Int32) (a6 : Int64) (a10 : Int32) (s0 : Int64) (s1 : Int64) (M : FM) (T : Ty M) (n_a0 : fm_is M 96 96 a0 = true) (h : HX99_root_199 a0 a1 a2 a5 a6 a10 s0 s1 M) : gs (FX99_root_199 fN k167 a0 a1 a2 a5 a6 a10 s0 s1 M) (GX99_root_199 a0 a1 a2 a5 a6 a10 s0 s1 M) (kX99_root k167) (pX99_root M) := by
  delta FX99_root_199 BX99_root_199
  refine gs_c n_a0 ?_
  have f2 := (tN_380 T.1 n_a0)
  refine gs_b (gX99_bit _ _ _ ⟨T.1, T.2⟩ f2 h.1) (fun K0 => ?_)
  refine gs_fi (fun c1_0 => ?_) (fun c1_0 => ?_)
  · exact gs_t (pX99_root_t K0.2.1) (gX99_root_217 k167 _ _ _ _ _ _ _ _ _ ⟨K0.1.1, K0.1.2⟩  )
  · exact gs_t (pX99_root_t K0.2.1) (gX99_root_217 k167 _ _ _ _ _ _ _ _ _ ⟨K0.1.1, K0.1.2⟩  )
noncomputable def GX99_root_146 (a0 : Nat) (a1 : Int32) (a2 : Int32) (s0 : Int32) (M : FM) : (Nat × Int32 × Int32 × Int32 × Int64 × Int64 × Int32 × FM) ⊕ (Int64 × FM) :=
  let M1 : FM := GX99_raise (M.2.2 380 a0 0) s0 M
  (.inl (a0, a1, a2, s0, (Int64.ofInt 0), (Int64.ofInt 0), (Int32.ofInt 116), M1))
def HX99_root_146 (a0 : Nat) (a1 : Int32) (a2 : Int32) (s0 : Int32) (M : FM) : Prop := (HX99_raise (M.2.2 380 a0 0) s0 M ∧ True)
theorem gX99_root_146 (k167 : Nat → Int32 → Int32 → Int32 → Int64 → Int64 → Int32 → FM → Option (Int64 × FM)) (a0 : Nat) (a1 : Int32) (a2 : Int32) (s0 : Int32) (M : FM) (T : Ty M) (n_a0 : fm_is M 96 96 a0 = true) (h : HX99_root_146 a0 a1 a2 s0 M) : gs (FX99_root_146 fN k167 a0 a1 a2 s0 M) (GX99_root_146 a0 a1 a2 s0 M) (kX99_root k167) (pX99_root M) := by
  delta FX99_root_146 BX99_root_146
  refine gs_c n_a0 ?_
  refine gs_b (gX99_raise _ _ _ h.1) (fun K0 => ?_)
  exact And.intro rfl (And.intro (And.intro K0.1.1 K0.1.2) K0.2)
noncomputable def GX99_root_82 (a0 : Nat) (a1 : Int32) (a2 : Int32) (M : FM) : (Nat × Int32 × Int32 × Int32 × Int64 × Int64 × Int32 × FM) ⊕ (Int64 × FM) :=
  let x1 : Nat := (M.2.2 376 a0 0)
  fi ((M.1 3 x1 (Int32.ofInt 0).toNatClampNeg) = (Int32.ofInt 1)) (
    let r2 : Int64 × FM := GX99_invalid a0 a1 M
    (.inr (r2.1, r2.2))) (
    let x3 : Nat := (M.2.2 377 a0 0)
    let M4 : FM := GX99_put (M.2.2 380 a0 0) (M.2.1 3 x3 (Int32.ofInt 0).toNatClampNeg) M
    let r5 : Int32 × FM := GX99_length (M4.2.2 380 a0 0) M4
    let x6 : Int32 := ((Int32.ofInt 116) - r5.1)
    let x7 : Nat := (r5.2.2.2 378 a0 0)
    let x8 : Int32 := ((r5.2.1 3 x7 (Int32.ofInt 0).toNatClampNeg) - x6)
    fi ((x8 - x8 / (Int32.ofInt 2) * (Int32.ofInt 2)) = 0) (
      GX99_root_146 a0 a1 a2 x6 r5.2) (
      GX99_root_146 a0 a1 a2 (x6 + (Int32.ofInt 1)) r5.2))
def HX99_root_82 (a0 : Nat) (a1 : Int32) (a2 : Int32) (M : FM) : Prop := let x1 : Nat := (M.2.2 376 a0 0); (((M.1 3 x1 (Int32.ofInt 0).toNatClampNeg) = (Int32.ofInt 1) → True) ∧ (¬ ((M.1 3 x1 (Int32.ofInt 0).toNatClampNeg) = (Int32.ofInt 1)) → let x3 : Nat := (M.2.2 377 a0 0); (HX99_put (M.2.2 380 a0 0) (M.2.1 3 x3 (Int32.ofInt 0).toNatClampNeg) M ∧ let M4 : FM := GX99_put (M.2.2 380 a0 0) (M.2.1 3 x3 (Int32.ofInt 0).toNatClampNeg) M; (HX99_length (M4.2.2 380 a0 0) M4 ∧ let r5 : Int32 × FM := GX99_length (M4.2.2 380 a0 0) M4; let x6 : Int32 := ((Int32.ofInt 116) - r5.1); let x7 : Nat := (r5.2.2.2 378 a0 0); let x8 : Int32 := ((r5.2.1 3 x7 (Int32.ofInt 0).toNatClampNeg) - x6); (((x8 - x8 / (Int32.ofInt 2) * (Int32.ofInt 2)) = 0 → HX99_root_146 a0 a1 a2 x6 r5.2) ∧ (¬ ((x8 - x8 / (Int32.ofInt 2) * (Int32.ofInt 2)) = 0) → HX99_root_146 a0 a1 a2 (x6 + (Int32.ofInt 1)) r5.2))))))
theorem gX99_root_82 (k167 : Nat → Int32 → Int32 → Int32 → Int64 → Int64 → Int32 → FM → Option (Int64 × FM)) (a0 : Nat) (a1 : Int32) (a2 : Int32) (M : FM) (T : Ty M) (n_a0 : fm_is M 96 96 a0 = true) (h : HX99_root_82 a0 a1 a2 M) : gs (FX99_root_82 fN k167 a0 a1 a2 M) (GX99_root_82 a0 a1 a2 M) (kX99_root k167) (pX99_root M) := by
  delta FX99_root_82 BX99_root_82
  refine gs_c n_a0 ?_
  have f13 := (tN_376 T.1 n_a0)
  have f14 := (fm_inl (i := (Int32.ofInt 0)) (tL_376 T.1 n_a0) (by decide))
  refine gs_c ⟨f13, f14⟩ ?_
  refine gs_fi (fun c0_0 => ?_) (fun c0_0 => ?_)
  · refine gs_c n_a0 ?_
    refine gs_b (gX99_invalid _ _ _ ⟨T.1, T.2⟩ n_a0 ) (fun K1 => ?_)
    exact And.intro rfl (And.intro (And.intro K1.1.1 K1.1.2) K1.2)
  · refine gs_c n_a0 ?_
    refine gs_c n_a0 ?_
    have f11 := (tN_377 T.1 n_a0)
    have f12 := (fm_inl (i := (Int32.ofInt 0)) (tL_377 T.1 n_a0) (by decide))
    refine gs_c ⟨f11, f12⟩ ?_
    refine gs_b (gX99_put _ _ _ (h.2 c0_0).1) (fun K2 => ?_)
    have f3 := (ext_is K2.2 (Nat.zero_lt_succ _) n_a0)
    refine gs_c f3 ?_
    refine gs_b (gX99_length _ _ (h.2 c0_0).2.1) (fun K4 => ?_)
    have f5 := (ext_is K4.2 (Nat.zero_lt_succ _) (ext_is K2.2 (Nat.zero_lt_succ _) n_a0))
    refine gs_c f5 ?_
    have f9 := (tN_378 K4.1.1 (ext_is K4.2 (Nat.zero_lt_succ _) (ext_is K2.2 (Nat.zero_lt_succ _) n_a0)))
    have f10 := (fm_inl (i := (Int32.ofInt 0)) (tL_378 K4.1.1 (ext_is K4.2 (Nat.zero_lt_succ _) (ext_is K2.2 (Nat.zero_lt_succ _) n_a0))) (by decide))
    refine gs_c ⟨f9, f10⟩ ?_
    refine gs_n (by decide) ?_
    refine gs_fi (fun c6_0 => ?_) (fun c6_0 => ?_)
    · have f7 := (ext_is K4.2 (Nat.zero_lt_succ _) (ext_is K2.2 (Nat.zero_lt_succ _) n_a0))
      exact gs_t (pX99_root_t (ext_tr K2.2 K4.2)) (gX99_root_146 k167 _ _ _ _ _ ⟨K4.1.1, K4.1.2⟩ f7 ((h.2 c0_0).2.2.1 c6_0))
    · have f8 := (ext_is K4.2 (Nat.zero_lt_succ _) (ext_is K2.2 (Nat.zero_lt_succ _) n_a0))
      exact gs_t (pX99_root_t (ext_tr K2.2 K4.2)) (gX99_root_146 k167 _ _ _ _ _ ⟨K4.1.1, K4.1.2⟩ f8 ((h.2 c0_0).2.2.2 c6_0))
noncomputable def GX99_root_81 (s0 : Int64) (M : FM) : (Nat × Int32 × Int32 × Int32 × Int64 × Int64 × Int32 × FM) ⊕ (Int64 × FM) :=
  (.inr (s0, M))
theorem gX99_root_81 (k167 : Nat → Int32 → Int32 → Int32 → Int64 → Int64 → Int32 → FM → Option (Int64 × FM)) (s0 : Int64) (M : FM) (T : Ty M) : gs (FX99_root_81 fN k167 s0 M) (GX99_root_81 s0 M) (kX99_root k167) (pX99_root M) := by
  delta FX99_root_81 BX99_root_81
  exact And.intro rfl (And.intro (And.intro T.1 T.2) ((ext_r _)))
noncomputable def GX99_root_45 (a0 : Nat) (a1 : Int32) (M : FM) : (Nat × Int32 × Int32 × Int32 × Int64 × Int64 × Int32 × FM) ⊕ (Int64 × FM) :=
  let x1 : Nat := (M.2.2 375 a0 0)
  fi ((M.1 3 x1 (Int32.ofInt 0).toNatClampNeg) = 0) (
    let x2 : Nat := (M.2.2 376 a0 0)
    let r3 : Int64 × FM := GX99_zero a0 (M.1 3 x2 (Int32.ofInt 0).toNatClampNeg) a1 M
    GX99_root_81 r3.1 r3.2) (
    let x4 : Nat := (M.2.2 374 a0 0)
    let r5 : Int64 × FM := GX99_pack (Int32.ofInt 0) ((M.1 3 x4 a1.toNatClampNeg).toInt64) (Int64.ofInt 0) a1 M
    GX99_root_81 r5.1 r5.2)
def HX99_root_45 (a0 : Nat) (a1 : Int32) (M : FM) : Prop := let x1 : Nat := (M.2.2 375 a0 0); (((M.1 3 x1 (Int32.ofInt 0).toNatClampNeg) = 0 → True) ∧ (¬ ((M.1 3 x1 (Int32.ofInt 0).toNatClampNeg) = 0) → let x4 : Nat := (M.2.2 374 a0 0); (fm_in M x4 a1 = true ∧ True)))
theorem gX99_root_45 (k167 : Nat → Int32 → Int32 → Int32 → Int64 → Int64 → Int32 → FM → Option (Int64 × FM)) (a0 : Nat) (a1 : Int32) (M : FM) (T : Ty M) (n_a0 : fm_is M 96 96 a0 = true) (h : HX99_root_45 a0 a1 M) : gs (FX99_root_45 fN k167 a0 a1 M) (GX99_root_45 a0 a1 M) (kX99_root k167) (pX99_root M) := by
  delta FX99_root_45 BX99_root_45
  refine gs_c n_a0 ?_
  have f6 := (tN_375 T.1 n_a0)
  have f7 := (fm_inl (i := (Int32.ofInt 0)) (tL_375 T.1 n_a0) (by decide))
  refine gs_c ⟨f6, f7⟩ ?_
  refine gs_fi (fun c0_0 => ?_) (fun c0_0 => ?_)
  · refine gs_c n_a0 ?_
    have f2 := (tN_376 T.1 n_a0)
    have f3 := (fm_inl (i := (Int32.ofInt 0)) (tL_376 T.1 n_a0) (by decide))
    refine gs_c ⟨f2, f3⟩ ?_
    refine gs_c n_a0 ?_
    refine gs_b (gX99_zero _ _ _ _ ⟨T.1, T.2⟩  ) (fun K1 => ?_)
    exact gs_t (pX99_root_t K1.2) (gX99_root_81 k167 _ _ ⟨K1.1.1, K1.1.2⟩  )
  · refine gs_c n_a0 ?_
    have f5 := (tN_374 T.1 n_a0)
    refine gs_c ⟨f5, (h.2 c0_0).1⟩ ?_
    refine gs_b (gX99_pack _ _ _ _ _ ⟨T.1, T.2⟩  ) (fun K4 => ?_)
    exact gs_t (pX99_root_t K4.2) (gX99_root_81 k167 _ _ ⟨K4.1.1, K4.1.2⟩  )
noncomputable def GX99_root_0 (a0 : Nat) (a1 : Int32) (a2 : Int32) (M : FM) : (Nat × Int32 × Int32 × Int32 × Int64 × Int64 × Int32 × FM) ⊕ (Int64 × FM) :=
  let r1 : Int64 × FM := GX99_none a0 (Int32.ofInt 1) a1 M
  fi ((lg_cmp r1.1 (Int64.ofInt (-1))) = 0) (
    let x2 : Nat := (r1.2.2.2 375 a0 0)
    fi ((r1.2.1 3 x2 (Int32.ofInt 0).toNatClampNeg) = 0) (
      GX99_root_45 a0 a1 r1.2) (
      let x3 : Nat := (r1.2.2.2 375 a0 0)
      fi ((r1.2.1 3 x3 (Int32.ofInt 0).toNatClampNeg) = (Int32.ofInt 2)) (
        let x4 : Nat := (r1.2.2.2 376 a0 0)
        fi ((r1.2.1 3 x4 (Int32.ofInt 0).toNatClampNeg) = 0) (
          GX99_root_45 a0 a1 r1.2) (
          GX99_root_82 a0 a1 a2 r1.2)) (
        GX99_root_82 a0 a1 a2 r1.2))) (
    (.inr (r1.1, r1.2)))
def HX99_root_0 (a0 : Nat) (a1 : Int32) (a2 : Int32) (M : FM) : Prop := (HX99_none a0 (Int32.ofInt 1) a1 M ∧ let r1 : Int64 × FM := GX99_none a0 (Int32.ofInt 1) a1 M; (((lg_cmp r1.1 (Int64.ofInt (-1))) = 0 → let x2 : Nat := (r1.2.2.2 375 a0 0); (((r1.2.1 3 x2 (Int32.ofInt 0).toNatClampNeg) = 0 → HX99_root_45 a0 a1 r1.2) ∧ (¬ ((r1.2.1 3 x2 (Int32.ofInt 0).toNatClampNeg) = 0) → let x3 : Nat := (r1.2.2.2 375 a0 0); (((r1.2.1 3 x3 (Int32.ofInt 0).toNatClampNeg) = (Int32.ofInt 2) → let x4 : Nat := (r1.2.2.2 376 a0 0); (((r1.2.1 3 x4 (Int32.ofInt 0).toNatClampNeg) = 0 → HX99_root_45 a0 a1 r1.2) ∧ (¬ ((r1.2.1 3 x4 (Int32.ofInt 0).toNatClampNeg) = 0) → HX99_root_82 a0 a1 a2 r1.2))) ∧ (¬ ((r1.2.1 3 x3 (Int32.ofInt 0).toNatClampNeg) = (Int32.ofInt 2)) → HX99_root_82 a0 a1 a2 r1.2))))) ∧ (¬ ((lg_cmp r1.1 (Int64.ofInt (-1))) = 0) → True)))
theorem gX99_root_0 (k167 : Nat → Int32 → Int32 → Int32 → Int64 → Int64 → Int32 → FM → Option (Int64 × FM)) (a0 : Nat) (a1 : Int32) (a2 : Int32) (M : FM) (T : Ty M) (n_a0 : fm_is M 96 96 a0 = true) (h : HX99_root_0 a0 a1 a2 M) : gs (FX99_root_0 fN k167 a0 a1 a2 M) (GX99_root_0 a0 a1 a2 M) (kX99_root k167) (pX99_root M) := by
  delta FX99_root_0 BX99_root_0
  refine gs_c n_a0 ?_
  refine gs_b (gX99_none _ _ _ _ h.1) (fun K0 => ?_)
  refine gs_fi (fun c1_0 => ?_) (fun c1_0 => ?_)
  · have f2 := (ext_is K0.2 (Nat.zero_lt_succ _) n_a0)
    refine gs_c f2 ?_
    have f16 := (tN_375 K0.1.1 (ext_is K0.2 (Nat.zero_lt_succ _) n_a0))
    have f17 := (fm_inl (i := (Int32.ofInt 0)) (tL_375 K0.1.1 (ext_is K0.2 (Nat.zero_lt_succ _) n_a0)) (by decide))
    refine gs_c ⟨f16, f17⟩ ?_
    refine gs_fi (fun c3_0 => ?_) (fun c3_0 => ?_)
    · have f4 := (ext_is K0.2 (Nat.zero_lt_succ _) n_a0)
      exact gs_t (pX99_root_t K0.2) (gX99_root_45 k167 _ _ _ ⟨K0.1.1, K0.1.2⟩ f4 ((h.2.1 c1_0).1 c3_0))
    · have f5 := (ext_is K0.2 (Nat.zero_lt_succ _) n_a0)
      refine gs_c f5 ?_
      have f14 := (tN_375 K0.1.1 (ext_is K0.2 (Nat.zero_lt_succ _) n_a0))
      have f15 := (fm_inl (i := (Int32.ofInt 0)) (tL_375 K0.1.1 (ext_is K0.2 (Nat.zero_lt_succ _) n_a0)) (by decide))
      refine gs_c ⟨f14, f15⟩ ?_
      refine gs_fi (fun c6_0 => ?_) (fun c6_0 => ?_)
      · have f7 := (ext_is K0.2 (Nat.zero_lt_succ _) n_a0)
        refine gs_c f7 ?_
        have f11 := (tN_376 K0.1.1 (ext_is K0.2 (Nat.zero_lt_succ _) n_a0))
        have f12 := (fm_inl (i := (Int32.ofInt 0)) (tL_376 K0.1.1 (ext_is K0.2 (Nat.zero_lt_succ _) n_a0)) (by decide))
        refine gs_c ⟨f11, f12⟩ ?_
        refine gs_fi (fun c8_0 => ?_) (fun c8_0 => ?_)
        · have f9 := (ext_is K0.2 (Nat.zero_lt_succ _) n_a0)
          exact gs_t (pX99_root_t K0.2) (gX99_root_45 k167 _ _ _ ⟨K0.1.1, K0.1.2⟩ f9 ((((h.2.1 c1_0).2 c3_0).1 c6_0).1 c8_0))
        · have f10 := (ext_is K0.2 (Nat.zero_lt_succ _) n_a0)
          exact gs_t (pX99_root_t K0.2) (gX99_root_82 k167 _ _ _ _ ⟨K0.1.1, K0.1.2⟩ f10 ((((h.2.1 c1_0).2 c3_0).1 c6_0).2 c8_0))
      · have f13 := (ext_is K0.2 (Nat.zero_lt_succ _) n_a0)
        exact gs_t (pX99_root_t K0.2) (gX99_root_82 k167 _ _ _ _ ⟨K0.1.1, K0.1.2⟩ f13 (((h.2.1 c1_0).2 c3_0).2 c6_0))
  · exact And.intro rfl (And.intro (And.intro K0.1.1 K0.1.2) K0.2)
noncomputable def GX99_root_167 (a0 : Nat) (a1 : Int32) (a2 : Int32) (a5 : Int32) (a6 : Int64) (a8 : Int64) (a10 : Int32) (M : FM) : (Nat × Int32 × Int32 × Int32 × Int64 × Int64 × Int32 × FM) ⊕ (Int64 × FM) :=
  fi (a10 < 0) (
    let M1 : FM := GX99_put (M.2.2 379 a0 0) a6 M
    fi ((lg_cmp a8 (Int64.ofInt 0)) ≤ 0) (
      GX99_root_309 a0 a1 a2 a5 a0 (Int32.ofInt 0) M1) (
      GX99_root_309 a0 a1 a2 a5 a0 (Int32.ofInt 1) M1)) (
    let r2 : Int32 × FM := GX99_bit (M.2.2 380 a0 0) (a10 + (Int32.ofInt 1)) M
    fi (r2.1 = 0) (
      GX99_root_199 a0 a1 a2 a5 a6 a10 ((Int64.ofInt 4) * a8) (Int64.ofInt 0) r2.2) (
      GX99_root_199 a0 a1 a2 a5 a6 a10 ((Int64.ofInt 4) * a8) (Int64.ofInt 2) r2.2))
def HX99_root_167 (a0 : Nat) (a1 : Int32) (a2 : Int32) (a5 : Int32) (a6 : Int64) (a8 : Int64) (a10 : Int32) (M : FM) : Prop := ((a10 < 0 → (HX99_put (M.2.2 379 a0 0) a6 M ∧ let M1 : FM := GX99_put (M.2.2 379 a0 0) a6 M; (((lg_cmp a8 (Int64.ofInt 0)) ≤ 0 → HX99_root_309 a0 a1 a2 a5 a0 (Int32.ofInt 0) M1) ∧ (¬ ((lg_cmp a8 (Int64.ofInt 0)) ≤ 0) → HX99_root_309 a0 a1 a2 a5 a0 (Int32.ofInt 1) M1)))) ∧ (¬ (a10 < 0) → (HX99_bit (M.2.2 380 a0 0) (a10 + (Int32.ofInt 1)) M ∧ let r2 : Int32 × FM := GX99_bit (M.2.2 380 a0 0) (a10 + (Int32.ofInt 1)) M; ((r2.1 = 0 → HX99_root_199 a0 a1 a2 a5 a6 a10 ((Int64.ofInt 4) * a8) (Int64.ofInt 0) r2.2) ∧ (¬ (r2.1 = 0) → HX99_root_199 a0 a1 a2 a5 a6 a10 ((Int64.ofInt 4) * a8) (Int64.ofInt 2) r2.2)))))
theorem gX99_root_167 (k167 : Nat → Int32 → Int32 → Int32 → Int64 → Int64 → Int32 → FM → Option (Int64 × FM)) (a0 : Nat) (a1 : Int32) (a2 : Int32) (a5 : Int32) (a6 : Int64) (a8 : Int64) (a10 : Int32) (M : FM) (T : Ty M) (n_a0 : fm_is M 96 96 a0 = true) (h : HX99_root_167 a0 a1 a2 a5 a6 a8 a10 M) : gs (FX99_root_167 fN k167 a0 a1 a2 a5 a6 a8 a10 M) (GX99_root_167 a0 a1 a2 a5 a6 a8 a10 M) (kX99_root k167) (pX99_root M) := by
  delta FX99_root_167 BX99_root_167
  refine gs_fi (fun c0_0 => ?_) (fun c0_0 => ?_)
  · refine gs_c n_a0 ?_
    refine gs_b (gX99_put _ _ _ (h.1 c0_0).1) (fun K1 => ?_)
    refine gs_fi (fun c2_0 => ?_) (fun c2_0 => ?_)
    · have f3 := (ext_is K1.2 (Nat.zero_lt_succ _) n_a0)
      have f4 := (ext_is K1.2 (Nat.zero_lt_succ _) n_a0)
      exact gs_t (pX99_root_t K1.2) (gX99_root_309 k167 _ _ _ _ _ _ _ ⟨K1.1.1, K1.1.2⟩ f3 fz_0 f4 ((h.1 c0_0).2.1 c2_0))
    · have f5 := (ext_is K1.2 (Nat.zero_lt_succ _) n_a0)
      have f6 := (ext_is K1.2 (Nat.zero_lt_succ _) n_a0)
      exact gs_t (pX99_root_t K1.2) (gX99_root_309 k167 _ _ _ _ _ _ _ ⟨K1.1.1, K1.1.2⟩ f5 fz_1 f6 ((h.1 c0_0).2.2 c2_0))
  · refine gs_c n_a0 ?_
    have f11 := (tN_380 T.1 n_a0)
    refine gs_b (gX99_bit _ _ _ ⟨T.1, T.2⟩ f11 (h.2 c0_0).1) (fun K7 => ?_)
    refine gs_fi (fun c8_0 => ?_) (fun c8_0 => ?_)
    · have f9 := (ext_is K7.2.1 (Nat.zero_lt_succ _) n_a0)
      exact gs_t (pX99_root_t K7.2.1) (gX99_root_199 k167 _ _ _ _ _ _ _ _ _ ⟨K7.1.1, K7.1.2⟩ f9 ((h.2 c0_0).2.1 c8_0))
    · have f10 := (ext_is K7.2.1 (Nat.zero_lt_succ _) n_a0)
      exact gs_t (pX99_root_t K7.2.1) (gX99_root_199 k167 _ _ _ _ _ _ _ _ _ ⟨K7.1.1, K7.1.2⟩ f10 ((h.2 c0_0).2.2 c8_0))
noncomputable def GX99_root (a0 : Nat) (a1 : Int32) (a2 : Int32) (M : FM) : Int64 × FM := (FX99_root fN a0 a1 a2 M).getD (0, M)
def HX99_root (a0 : Nat) (a1 : Int32) (a2 : Int32) (M : FM) : Prop := ∃ r, FX99_root fN a0 a1 a2 M = some r ∧ OkR M r
theorem gX99_root (a0 : Nat) (a1 : Int32) (a2 : Int32) (M : FM) (h : HX99_root a0 a1 a2 M) : gd (FX99_root fN a0 a1 a2 M) (GX99_root a0 a1 a2 M) (OkR M) := gd_op h
noncomputable def GX99_fewest_22 (s0 : Int64) (M : FM) : Int64 × FM :=
  (s0, M)
theorem gX99_fewest_22 (s0 : Int64) (M : FM) (T : Ty M) : gd (FX99_fewest_22 s0 M) (GX99_fewest_22 s0 M) (OkR M) := by
  delta FX99_fewest_22 BX99_fewest_22
  exact ⟨rfl, ⟨T.1, T.2⟩, (ext_r _)⟩
noncomputable def GX99_fewest_0 (a0 : Int32) (M : FM) : Int64 × FM :=
  fi (a0 = 0) (
    GX99_fewest_22 (Int64.ofInt (-2147483648)) M) (
    fi (a0 = (Int32.ofInt 2)) (
      GX99_fewest_22 (Int64.ofInt (-9223372036854775808)) M) (
      GX99_fewest_22 (Int64.ofInt 0) M))
theorem gX99_fewest_0 (a0 : Int32) (M : FM) (T : Ty M) : gd (FX99_fewest_0 a0 M) (GX99_fewest_0 a0 M) (OkR M) := by
  delta FX99_fewest_0 BX99_fewest_0
  refine gd_fi (fun c0_0 => ?_) (fun c0_0 => ?_)
  · exact gd_tR (ext_r _) (gX99_fewest_22 _ _ ⟨T.1, T.2⟩  )
  · refine gd_fi (fun c1_0 => ?_) (fun c1_0 => ?_)
    · exact gd_tR (ext_r _) (gX99_fewest_22 _ _ ⟨T.1, T.2⟩  )
    · exact gd_tR (ext_r _) (gX99_fewest_22 _ _ ⟨T.1, T.2⟩  )
noncomputable def GX99_fewest (a0 : Int32) (M : FM) : Int64 × FM := GX99_fewest_0 a0 M
theorem gX99_fewest (a0 : Int32) (M : FM) (T : Ty M) : gd (FX99_fewest a0 M) (GX99_fewest a0 M) (OkR M) := gX99_fewest_0 a0 M T 
noncomputable def GX99_most_35 (s0 : Int64) (M : FM) : Int64 × FM :=
  (s0, M)
theorem gX99_most_35 (s0 : Int64) (M : FM) (T : Ty M) : gd (FX99_most_35 s0 M) (GX99_most_35 s0 M) (OkR M) := by
  delta FX99_most_35 BX99_most_35
  exact ⟨rfl, ⟨T.1, T.2⟩, (ext_r _)⟩
noncomputable def GX99_most_0 (a0 : Int32) (M : FM) : Int64 × FM :=
  fi (a0 = 0) (
    GX99_most_35 (Int64.ofInt 2147483647) M) (
    fi (a0 = (Int32.ofInt 1)) (
      GX99_most_35 (Int64.ofInt 4294967295) M) (
      fi (a0 = (Int32.ofInt 2)) (
        GX99_most_35 (Int64.ofInt 9223372036854775807) M) (
        GX99_most_35 (Int64.ofInt (-1)) M)))
theorem gX99_most_0 (a0 : Int32) (M : FM) (T : Ty M) : gd (FX99_most_0 a0 M) (GX99_most_0 a0 M) (OkR M) := by
  delta FX99_most_0 BX99_most_0
  refine gd_fi (fun c0_0 => ?_) (fun c0_0 => ?_)
  · exact gd_tR (ext_r _) (gX99_most_35 _ _ ⟨T.1, T.2⟩  )
  · refine gd_fi (fun c1_0 => ?_) (fun c1_0 => ?_)
    · exact gd_tR (ext_r _) (gX99_most_35 _ _ ⟨T.1, T.2⟩  )
    · refine gd_fi (fun c2_0 => ?_) (fun c2_0 => ?_)
      · exact gd_tR (ext_r _) (gX99_most_35 _ _ ⟨T.1, T.2⟩  )
      · exact gd_tR (ext_r _) (gX99_most_35 _ _ ⟨T.1, T.2⟩  )
noncomputable def GX99_most (a0 : Int32) (M : FM) : Int64 × FM := GX99_most_0 a0 M
theorem gX99_most (a0 : Int32) (M : FM) (T : Ty M) : gd (FX99_most a0 M) (GX99_most a0 M) (OkR M) := gX99_most_0 a0 M T 
noncomputable def GX99_shown_12 (s0 : Int64) (M : FM) : Int64 × FM :=
  (s0, M)
theorem gX99_shown_12 (s0 : Int64) (M : FM) (T : Ty M) : gd (FX99_shown_12 s0 M) (GX99_shown_12 s0 M) (OkR M) := by
  delta FX99_shown_12 BX99_shown_12
  exact ⟨rfl, ⟨T.1, T.2⟩, (ext_r _)⟩
noncomputable def GX99_shown_0 (a0 : Int64) (a2 : Int32) (M : FM) : Int64 × FM :=
  fi ((Int32.ofInt 2) ≤ a2) (
    GX99_shown_12 a0 M) (
    GX99_shown_12 a0.toInt32.toInt64 M)
theorem gX99_shown_0 (a0 : Int64) (a2 : Int32) (M : FM) (T : Ty M) : gd (FX99_shown_0 a0 a2 M) (GX99_shown_0 a0 a2 M) (OkR M) := by
  delta FX99_shown_0 BX99_shown_0
  refine gd_fi (fun c0_0 => ?_) (fun c0_0 => ?_)
  · exact gd_tR (ext_r _) (gX99_shown_12 _ _ ⟨T.1, T.2⟩  )
  · exact gd_tR (ext_r _) (gX99_shown_12 _ _ ⟨T.1, T.2⟩  )
noncomputable def GX99_shown (a0 : Int64) (a2 : Int32) (M : FM) : Int64 × FM := GX99_shown_0 a0 a2 M
theorem gX99_shown (a0 : Int64) (a2 : Int32) (M : FM) (T : Ty M) : gd (FX99_shown a0 a2 M) (GX99_shown a0 a2 M) (OkR M) := gX99_shown_0 a0 a2 M T 
noncomputable def GX99_beyond_21 (a2 : Int32) (s0 : Int64) (M : FM) : Int64 × FM :=
  let r1 : Int64 × FM := GX99_shown s0 a2 M
  (r1.1, r1.2)
theorem gX99_beyond_21 (a2 : Int32) (s0 : Int64) (M : FM) (T : Ty M) : gd (FX99_beyond_21 a2 s0 M) (GX99_beyond_21 a2 s0 M) (OkR M) := by
  delta FX99_beyond_21 BX99_beyond_21
  refine gd_b (gX99_shown _ _ _ ⟨T.1, T.2⟩  ) (fun K0 => ?_)
  exact ⟨rfl, ⟨K0.1.1, K0.1.2⟩, K0.2⟩
noncomputable def GX99_beyond_0 (a0 : Nat) (a1 : Int32) (a2 : Int32) (M : FM) : Int64 × FM :=
  let M1 : FM := GX99_raiseFlags a0 (Int32.ofInt 16) M
  fi (a1 = 0) (
    let r2 : Int64 × FM := GX99_most a2 M1
    GX99_beyond_21 a2 r2.1 r2.2) (
    let r3 : Int64 × FM := GX99_fewest a2 M1
    GX99_beyond_21 a2 r3.1 r3.2)
theorem gX99_beyond_0 (a0 : Nat) (a1 : Int32) (a2 : Int32) (M : FM) (T : Ty M) (n_a0 : fm_is M 96 96 a0 = true) : gd (FX99_beyond_0 a0 a1 a2 M) (GX99_beyond_0 a0 a1 a2 M) (OkR M) := by
  delta FX99_beyond_0 BX99_beyond_0
  refine gd_c n_a0 ?_
  refine gd_b (gX99_raiseFlags _ _ _ ⟨T.1, T.2⟩ n_a0 ) (fun K0 => ?_)
  refine gd_fi (fun c1_0 => ?_) (fun c1_0 => ?_)
  · refine gd_b (gX99_most _ _ ⟨K0.1.1, K0.1.2⟩  ) (fun K2 => ?_)
    exact gd_tR (ext_tr K0.2 K2.2) (gX99_beyond_21 _ _ _ ⟨K2.1.1, K2.1.2⟩  )
  · refine gd_b (gX99_fewest _ _ ⟨K0.1.1, K0.1.2⟩  ) (fun K3 => ?_)
    exact gd_tR (ext_tr K0.2 K3.2) (gX99_beyond_21 _ _ _ ⟨K3.1.1, K3.1.2⟩  )
noncomputable def GX99_beyond (a0 : Nat) (a1 : Int32) (a2 : Int32) (M : FM) : Int64 × FM := GX99_beyond_0 a0 a1 a2 M
theorem gX99_beyond (a0 : Nat) (a1 : Int32) (a2 : Int32) (M : FM) (T : Ty M) (n_a0 : fm_is M 96 96 a0 = true) : gd (FX99_beyond a0 a1 a2 M) (GX99_beyond a0 a1 a2 M) (OkR M) := gX99_beyond_0 a0 a1 a2 M T n_a0 
noncomputable def GX99_toInteger_404 (a1 : Int32) (s0 : Int64) (M : FM) : Int64 × FM :=
  let r1 : Int64 × FM := GX99_shown s0 a1 M
  (r1.1, r1.2)
theorem gX99_toInteger_404 (a1 : Int32) (s0 : Int64) (M : FM) (T : Ty M) : gd (FX99_toInteger_404 fN a1 s0 M) (GX99_toInteger_404 a1 s0 M) (OkR M) := by
  delta FX99_toInteger_404 BX99_toInteger_404
  refine gd_b (gX99_shown _ _ _ ⟨T.1, T.2⟩  ) (fun K0 => ?_)
  exact ⟨rfl, ⟨K0.1.1, K0.1.2⟩, K0.2⟩
noncomputable def GX99_toInteger_383 (a0 : Nat) (a1 : Int32) (M : FM) : Int64 × FM :=
  fi ((M.1 382 a0 0) = (Int32.ofInt 1)) (
    GX99_toInteger_404 a1 ((Int64.ofInt 0) - (M.2.1 384 a0 0)) M) (
    GX99_toInteger_404 a1 (M.2.1 384 a0 0) M)
theorem gX99_toInteger_383 (a0 : Nat) (a1 : Int32) (M : FM) (T : Ty M) (n_a0 : fm_is M 96 96 a0 = true) : gd (FX99_toInteger_383 fN a0 a1 M) (GX99_toInteger_383 a0 a1 M) (OkR M) := by
  delta FX99_toInteger_383 BX99_toInteger_383
  refine gd_c n_a0 ?_
  refine gd_fi (fun c0_0 => ?_) (fun c0_0 => ?_)
  · refine gd_c n_a0 ?_
    exact gd_tR (ext_r _) (gX99_toInteger_404 _ _ _ ⟨T.1, T.2⟩  )
  · refine gd_c n_a0 ?_
    exact gd_tR (ext_r _) (gX99_toInteger_404 _ _ _ ⟨T.1, T.2⟩  )
noncomputable def GX99_toInteger_368 (a1 : Int32) (s0 : Nat) (s1 : Int32) (M : FM) : Int64 × FM :=
  let r1 : Int64 × FM := GX99_beyond s0 s1 a1 M
  (r1.1, r1.2)
theorem gX99_toInteger_368 (a1 : Int32) (s0 : Nat) (s1 : Int32) (M : FM) (T : Ty M) (n_s0 : fm_is M 96 96 s0 = true) : gd (FX99_toInteger_368 fN a1 s0 s1 M) (GX99_toInteger_368 a1 s0 s1 M) (OkR M) := by
  delta FX99_toInteger_368 BX99_toInteger_368
  refine gd_c n_s0 ?_
  refine gd_b (gX99_beyond _ _ _ _ ⟨T.1, T.2⟩ n_s0 ) (fun K0 => ?_)
  exact ⟨rfl, ⟨K0.1.1, K0.1.2⟩, K0.2⟩
noncomputable def GX99_toInteger_349 (a0 : Nat) (a1 : Int32) (a4 : Int32) (a7 : Int32) (M : FM) : Int64 × FM :=
  fi (a7 = 0) (
    fi (a4 = 0) (
      GX99_toInteger_383 a0 a1 M) (
      let M1 : FM := GX99_raiseFlags a0 (Int32.ofInt 1) M
      GX99_toInteger_383 a0 a1 M1)) (
    fi ((M.1 382 a0 0) = (Int32.ofInt 1)) (
      GX99_toInteger_368 a1 a0 (Int32.ofInt 1) M) (
      GX99_toInteger_368 a1 a0 (Int32.ofInt 0) M))
theorem gX99_toInteger_349 (a0 : Nat) (a1 : Int32) (a4 : Int32) (a7 : Int32) (M : FM) (T : Ty M) (n_a0 : fm_is M 96 96 a0 = true) : gd (FX99_toInteger_349 fN a0 a1 a4 a7 M) (GX99_toInteger_349 a0 a1 a4 a7 M) (OkR M) := by
  delta FX99_toInteger_349 BX99_toInteger_349
  refine gd_fi (fun c0_0 => ?_) (fun c0_0 => ?_)
  · refine gd_fi (fun c1_0 => ?_) (fun c1_0 => ?_)
    · exact gd_tR (ext_r _) (gX99_toInteger_383 _ _ _ ⟨T.1, T.2⟩ n_a0 )
    · refine gd_c n_a0 ?_
      refine gd_b (gX99_raiseFlags _ _ _ ⟨T.1, T.2⟩ n_a0 ) (fun K2 => ?_)
      have f3 := (ext_is K2.2 (Nat.zero_lt_succ _) n_a0)
      exact gd_tR K2.2 (gX99_toInteger_383 _ _ _ ⟨K2.1.1, K2.1.2⟩ f3 )
  · refine gd_c n_a0 ?_
    refine gd_fi (fun c4_0 => ?_) (fun c4_0 => ?_)
    · exact gd_tR (ext_r _) (gX99_toInteger_368 _ _ _ _ ⟨T.1, T.2⟩ n_a0 )
    · exact gd_tR (ext_r _) (gX99_toInteger_368 _ _ _ _ ⟨T.1, T.2⟩ n_a0 )
noncomputable def GX99_toInteger_347 (a0 : Nat) (a1 : Int32) (a4 : Int32) (s0 : Int32) (M : FM) : Int64 × FM :=
  GX99_toInteger_349 a0 a1 a4 s0 M
theorem gX99_toInteger_347 (a0 : Nat) (a1 : Int32) (a4 : Int32) (s0 : Int32) (M : FM) (T : Ty M) (n_a0 : fm_is M 96 96 a0 = true) : gd (FX99_toInteger_347 fN a0 a1 a4 s0 M) (GX99_toInteger_347 a0 a1 a4 s0 M) (OkR M) := by
  delta FX99_toInteger_347 BX99_toInteger_347
  exact gd_tR (ext_r _) (gX99_toInteger_349 _ _ _ _ _ ⟨T.1, T.2⟩ n_a0 )
noncomputable def GX99_toInteger_342 (a0 : Nat) (a1 : Int32) (a4 : Int32) (M : FM) : Int64 × FM :=
  GX99_toInteger_347 a0 a1 a4 (Int32.ofInt 1) M
theorem gX99_toInteger_342 (a0 : Nat) (a1 : Int32) (a4 : Int32) (M : FM) (T : Ty M) (n_a0 : fm_is M 96 96 a0 = true) : gd (FX99_toInteger_342 fN a0 a1 a4 M) (GX99_toInteger_342 a0 a1 a4 M) (OkR M) := by
  delta FX99_toInteger_342 BX99_toInteger_342
  exact gd_tR (ext_r _) (gX99_toInteger_347 _ _ _ _ _ ⟨T.1, T.2⟩ n_a0 )
noncomputable def GX99_toInteger_311 (a0 : Nat) (a1 : Int32) (a4 : Int32) (s0 : Int32) (M : FM) : Int64 × FM :=
  GX99_toInteger_349 a0 a1 a4 s0 M
theorem gX99_toInteger_311 (a0 : Nat) (a1 : Int32) (a4 : Int32) (s0 : Int32) (M : FM) (T : Ty M) (n_a0 : fm_is M 96 96 a0 = true) : gd (FX99_toInteger_311 fN a0 a1 a4 s0 M) (GX99_toInteger_311 a0 a1 a4 s0 M) (OkR M) := by
  delta FX99_toInteger_311 BX99_toInteger_311
  exact gd_tR (ext_r _) (gX99_toInteger_349 _ _ _ _ _ ⟨T.1, T.2⟩ n_a0 )
noncomputable def GX99_toInteger_310 (a0 : Nat) (a1 : Int32) (a4 : Int32) (M : FM) : Int64 × FM :=
  GX99_toInteger_311 a0 a1 a4 (Int32.ofInt 0) M
theorem gX99_toInteger_310 (a0 : Nat) (a1 : Int32) (a4 : Int32) (M : FM) (T : Ty M) (n_a0 : fm_is M 96 96 a0 = true) : gd (FX99_toInteger_310 fN a0 a1 a4 M) (GX99_toInteger_310 a0 a1 a4 M) (OkR M) := by
  delta FX99_toInteger_310 BX99_toInteger_310
  exact gd_tR (ext_r _) (gX99_toInteger_311 _ _ _ _ _ ⟨T.1, T.2⟩ n_a0 )
noncomputable def GX99_toInteger_282 (a0 : Nat) (a1 : Int32) (a4 : Int32) (M : FM) : Int64 × FM :=
  GX99_toInteger_311 a0 a1 a4 (Int32.ofInt 1) M
theorem gX99_toInteger_282 (a0 : Nat) (a1 : Int32) (a4 : Int32) (M : FM) (T : Ty M) (n_a0 : fm_is M 96 96 a0 = true) : gd (FX99_toInteger_282 fN a0 a1 a4 M) (GX99_toInteger_282 a0 a1 a4 M) (OkR M) := by
  delta FX99_toInteger_282 BX99_toInteger_282
  exact gd_tR (ext_r _) (gX99_toInteger_311 _ _ _ _ _ ⟨T.1, T.2⟩ n_a0 )
noncomputable def GX99_toInteger_220 (a0 : Nat) (a1 : Int32) (a3 : Int32) (a4 : Int32) (a5 : Int32) (s0 : Int32) (M : FM) : Int64 × FM :=
  fi (a3 = 0) (
    fi ((M.1 382 a0 0) = (Int32.ofInt 1)) (
      fi (a5 = 0) (
        fi (a1 = 0) (
          fi (s0 = 0) (
            fi ((lg_cmp (M.2.1 384 a0 0) (Int64.ofInt 2147483648)) ≤ 0) (
              GX99_toInteger_311 a0 a1 a4 (Int32.ofInt 0) M) (
              GX99_toInteger_282 a0 a1 a4 M)) (
            GX99_toInteger_282 a0 a1 a4 M)) (
          fi (s0 = 0) (
            GX99_toInteger_310 a0 a1 a4 M) (
            fi ((lg_cmp ((M.2.1 384 a0 0) <<< ((Int32.ofInt 1).toInt64 &&& 63)) (Int64.ofInt 0)) = 0) (
              GX99_toInteger_310 a0 a1 a4 M) (
              GX99_toInteger_311 a0 a1 a4 (Int32.ofInt 1) M)))) (
        fi ((lg_cmp (M.2.1 384 a0 0) (Int64.ofInt 0)) = 0) (
          GX99_toInteger_311 a0 a1 a4 (Int32.ofInt 0) M) (
          GX99_toInteger_311 a0 a1 a4 (Int32.ofInt 1) M))) (
      fi (a1 = (Int32.ofInt 3)) (
        GX99_toInteger_347 a0 a1 a4 (Int32.ofInt 0) M) (
        fi (s0 = 0) (
          let r1 : Int64 × FM := GX99_most a1 M
          fi ((lg_cmp (M.2.1 384 a0 0) r1.1) ≤ 0) (
            GX99_toInteger_347 a0 a1 a4 (Int32.ofInt 0) r1.2) (
            GX99_toInteger_342 a0 a1 a4 r1.2)) (
          GX99_toInteger_342 a0 a1 a4 M)))) (
    GX99_toInteger_349 a0 a1 a4 (Int32.ofInt 1) M)
theorem gX99_toInteger_220 (a0 : Nat) (a1 : Int32) (a3 : Int32) (a4 : Int32) (a5 : Int32) (s0 : Int32) (M : FM) (T : Ty M) (n_a0 : fm_is M 96 96 a0 = true) : gd (FX99_toInteger_220 fN a0 a1 a3 a4 a5 s0 M) (GX99_toInteger_220 a0 a1 a3 a4 a5 s0 M) (OkR M) := by
  delta FX99_toInteger_220 BX99_toInteger_220
  refine gd_fi (fun c0_0 => ?_) (fun c0_0 => ?_)
  · refine gd_c n_a0 ?_
    refine gd_fi (fun c1_0 => ?_) (fun c1_0 => ?_)
    · refine gd_fi (fun c2_0 => ?_) (fun c2_0 => ?_)
      · refine gd_fi (fun c3_0 => ?_) (fun c3_0 => ?_)
        · refine gd_fi (fun c4_0 => ?_) (fun c4_0 => ?_)
          · refine gd_c n_a0 ?_
            refine gd_fi (fun c5_0 => ?_) (fun c5_0 => ?_)
            · exact gd_tR (ext_r _) (gX99_toInteger_311 _ _ _ _ _ ⟨T.1, T.2⟩ n_a0 )
            · exact gd_tR (ext_r _) (gX99_toInteger_282 _ _ _ _ ⟨T.1, T.2⟩ n_a0 )
          · exact gd_tR (ext_r _) (gX99_toInteger_282 _ _ _ _ ⟨T.1, T.2⟩ n_a0 )
        · refine gd_fi (fun c6_0 => ?_) (fun c6_0 => ?_)
          · exact gd_tR (ext_r _) (gX99_toInteger_310 _ _ _ _ ⟨T.1, T.2⟩ n_a0 )
          · refine gd_c n_a0 ?_
            refine gd_fi (fun c7_0 => ?_) (fun c7_0 => ?_)
            · exact gd_tR (ext_r _) (gX99_toInteger_310 _ _ _ _ ⟨T.1, T.2⟩ n_a0 )
            · exact gd_tR (ext_r _) (gX99_toInteger_311 _ _ _ _ _ ⟨T.1, T.2⟩ n_a0 )
      · refine gd_c n_a0 ?_
        refine gd_fi (fun c8_0 => ?_) (fun c8_0 => ?_)
        · exact gd_tR (ext_r _) (gX99_toInteger_311 _ _ _ _ _ ⟨T.1, T.2⟩ n_a0 )
        · exact gd_tR (ext_r _) (gX99_toInteger_311 _ _ _ _ _ ⟨T.1, T.2⟩ n_a0 )
    · refine gd_fi (fun c9_0 => ?_) (fun c9_0 => ?_)
      · exact gd_tR (ext_r _) (gX99_toInteger_347 _ _ _ _ _ ⟨T.1, T.2⟩ n_a0 )
      · refine gd_fi (fun c10_0 => ?_) (fun c10_0 => ?_)
        · refine gd_c n_a0 ?_
          refine gd_b (gX99_most _ _ ⟨T.1, T.2⟩  ) (fun K11 => ?_)
          refine gd_fi (fun c12_0 => ?_) (fun c12_0 => ?_)
          · have f13 := (ext_is K11.2 (Nat.zero_lt_succ _) n_a0)
            exact gd_tR K11.2 (gX99_toInteger_347 _ _ _ _ _ ⟨K11.1.1, K11.1.2⟩ f13 )
          · have f14 := (ext_is K11.2 (Nat.zero_lt_succ _) n_a0)
            exact gd_tR K11.2 (gX99_toInteger_342 _ _ _ _ ⟨K11.1.1, K11.1.2⟩ f14 )
        · exact gd_tR (ext_r _) (gX99_toInteger_342 _ _ _ _ ⟨T.1, T.2⟩ n_a0 )
  · exact gd_tR (ext_r _) (gX99_toInteger_349 _ _ _ _ _ ⟨T.1, T.2⟩ n_a0 )
noncomputable def GX99_toInteger_204 (a0 : Nat) (a1 : Int32) (a3 : Int32) (a4 : Int32) (s0 : Int32) (M : FM) : Int64 × FM :=
  fi (0 ≤ (lg_cmp (M.2.1 384 a0 0) (Int64.ofInt 0))) (
    GX99_toInteger_220 a0 a1 a3 a4 s0 (Int32.ofInt 0) M) (
    GX99_toInteger_220 a0 a1 a3 a4 s0 (Int32.ofInt 1) M)
theorem gX99_toInteger_204 (a0 : Nat) (a1 : Int32) (a3 : Int32) (a4 : Int32) (s0 : Int32) (M : FM) (T : Ty M) (n_a0 : fm_is M 96 96 a0 = true) : gd (FX99_toInteger_204 fN a0 a1 a3 a4 s0 M) (GX99_toInteger_204 a0 a1 a3 a4 s0 M) (OkR M) := by
  delta FX99_toInteger_204 BX99_toInteger_204
  refine gd_c n_a0 ?_
  refine gd_fi (fun c0_0 => ?_) (fun c0_0 => ?_)
  · exact gd_tR (ext_r _) (gX99_toInteger_220 _ _ _ _ _ _ _ ⟨T.1, T.2⟩ n_a0 )
  · exact gd_tR (ext_r _) (gX99_toInteger_220 _ _ _ _ _ _ _ ⟨T.1, T.2⟩ n_a0 )
noncomputable def GX99_toInteger_185 (a0 : Nat) (a1 : Int32) (s0 : Int32) (M : FM) : Int64 × FM :=
  let x1 : Int32 := (M.1 385 a0 0)
  fi ((a1 - a1 / (Int32.ofInt 2) * (Int32.ofInt 2)) = (Int32.ofInt 1)) (
    GX99_toInteger_204 a0 a1 s0 x1 (Int32.ofInt 1) M) (
    GX99_toInteger_204 a0 a1 s0 x1 (Int32.ofInt 0) M)
theorem gX99_toInteger_185 (a0 : Nat) (a1 : Int32) (s0 : Int32) (M : FM) (T : Ty M) (n_a0 : fm_is M 96 96 a0 = true) : gd (FX99_toInteger_185 fN a0 a1 s0 M) (GX99_toInteger_185 a0 a1 s0 M) (OkR M) := by
  delta FX99_toInteger_185 BX99_toInteger_185
  refine gd_c n_a0 ?_
  refine gd_n (by decide) ?_
  refine gd_fi (fun c0_0 => ?_) (fun c0_0 => ?_)
  · exact gd_tR (ext_r _) (gX99_toInteger_204 _ _ _ _ _ _ ⟨T.1, T.2⟩ n_a0 )
  · exact gd_tR (ext_r _) (gX99_toInteger_204 _ _ _ _ _ _ ⟨T.1, T.2⟩ n_a0 )
noncomputable def GX99_toInteger_184 (a0 : Nat) (a1 : Int32) (M : FM) : Int64 × FM :=
  GX99_toInteger_185 a0 a1 (Int32.ofInt 0) M
theorem gX99_toInteger_184 (a0 : Nat) (a1 : Int32) (M : FM) (T : Ty M) (n_a0 : fm_is M 96 96 a0 = true) : gd (FX99_toInteger_184 fN a0 a1 M) (GX99_toInteger_184 a0 a1 M) (OkR M) := by
  delta FX99_toInteger_184 BX99_toInteger_184
  exact gd_tR (ext_r _) (gX99_toInteger_185 _ _ _ _ ⟨T.1, T.2⟩ n_a0 )
noncomputable def GX99_toInteger_180 (a0 : Nat) (a1 : Int32) (M : FM) : Int64 × FM :=
  GX99_toInteger_185 a0 a1 (Int32.ofInt 1) M
theorem gX99_toInteger_180 (a0 : Nat) (a1 : Int32) (M : FM) (T : Ty M) (n_a0 : fm_is M 96 96 a0 = true) : gd (FX99_toInteger_180 fN a0 a1 M) (GX99_toInteger_180 a0 a1 M) (OkR M) := by
  delta FX99_toInteger_180 BX99_toInteger_180
  exact gd_tR (ext_r _) (gX99_toInteger_185 _ _ _ _ ⟨T.1, T.2⟩ n_a0 )
noncomputable def GX99_toInteger_119 (a1 : Int32) (s0 : Nat) (s1 : Int32) (M : FM) : Int64 × FM :=
  let r1 : Int64 × FM := GX99_beyond s0 s1 a1 M
  (r1.1, r1.2)
theorem gX99_toInteger_119 (a1 : Int32) (s0 : Nat) (s1 : Int32) (M : FM) (T : Ty M) (n_s0 : fm_is M 96 96 s0 = true) : gd (FX99_toInteger_119 fN a1 s0 s1 M) (GX99_toInteger_119 a1 s0 s1 M) (OkR M) := by
  delta FX99_toInteger_119 BX99_toInteger_119
  refine gd_c n_s0 ?_
  refine gd_b (gX99_beyond _ _ _ _ ⟨T.1, T.2⟩ n_s0 ) (fun K0 => ?_)
  exact ⟨rfl, ⟨K0.1.1, K0.1.2⟩, K0.2⟩
noncomputable def GX99_toInteger_50 (a0 : Nat) (a1 : Int32) (a2 : Int32) (M : FM) : Int64 × FM :=
  let x1 : Nat := (M.2.2 377 a0 0)
  let M2 : FM := GX99_put (M.2.2 379 a0 0) (M.2.1 3 x1 (Int32.ofInt 0).toNatClampNeg) M
  let x3 : Nat := (M2.2.2 378 a0 0)
  let M4 : FM := fm_sI M2 383 a0 0 (M2.1 3 x3 (Int32.ofInt 0).toNatClampNeg)
  let x5 : Nat := (M4.2.2 376 a0 0)
  let M6 : FM := fm_sI M4 382 a0 0 (M4.1 3 x5 (Int32.ofInt 0).toNatClampNeg)
  let M7 : FM := fm_sI M6 381 a0 0 (Int32.ofInt 0)
  let r8 : Int32 × FM := GX99_length (M7.2.2 379 a0 0) M7
  fi ((r8.1 + (r8.2.1 383 a0 0)) ≤ (Int32.ofInt 65)) (
    let M9 : FM := GX99_roundTo a0 (Int32.ofInt 0) a2 r8.2
    let r10 : Int32 × FM := GX99_bit (M9.2.2 379 a0 0) ((Int32.ofInt 64) - (M9.1 383 a0 0)) M9
    fi (r10.1 = 0) (
      fi ((lg_cmp (r10.2.2.1 384 a0 0) (Int64.ofInt 0)) = 0) (
        fi ((r10.2.1 385 a0 0) = 0) (
          GX99_toInteger_184 a0 a1 r10.2) (
          let r11 : Int32 × FM := GX99_bit (r10.2.2.2 379 a0 0) ((Int32.ofInt 63) - (r10.2.1 383 a0 0)) r10.2
          fi (r11.1 = 0) (
            GX99_toInteger_184 a0 a1 r11.2) (
            GX99_toInteger_180 a0 a1 r11.2))) (
        GX99_toInteger_184 a0 a1 r10.2)) (
      GX99_toInteger_180 a0 a1 r10.2)) (
    fi ((r8.2.1 382 a0 0) = (Int32.ofInt 1)) (
      GX99_toInteger_119 a1 a0 (Int32.ofInt 1) r8.2) (
      GX99_toInteger_119 a1 a0 (Int32.ofInt 0) r8.2))
def HX99_toInteger_50 (a0 : Nat) (a1 : Int32) (a2 : Int32) (M : FM) : Prop := let x1 : Nat := (M.2.2 377 a0 0); (HX99_put (M.2.2 379 a0 0) (M.2.1 3 x1 (Int32.ofInt 0).toNatClampNeg) M ∧ let M2 : FM := GX99_put (M.2.2 379 a0 0) (M.2.1 3 x1 (Int32.ofInt 0).toNatClampNeg) M; let x3 : Nat := (M2.2.2 378 a0 0); let M4 : FM := fm_sI M2 383 a0 0 (M2.1 3 x3 (Int32.ofInt 0).toNatClampNeg); let x5 : Nat := (M4.2.2 376 a0 0); let M6 : FM := fm_sI M4 382 a0 0 (M4.1 3 x5 (Int32.ofInt 0).toNatClampNeg); let M7 : FM := fm_sI M6 381 a0 0 (Int32.ofInt 0); (HX99_length (M7.2.2 379 a0 0) M7 ∧ let r8 : Int32 × FM := GX99_length (M7.2.2 379 a0 0) M7; (((r8.1 + (r8.2.1 383 a0 0)) ≤ (Int32.ofInt 65) → (HX99_roundTo a0 (Int32.ofInt 0) a2 r8.2 ∧ let M9 : FM := GX99_roundTo a0 (Int32.ofInt 0) a2 r8.2; (HX99_bit (M9.2.2 379 a0 0) ((Int32.ofInt 64) - (M9.1 383 a0 0)) M9 ∧ let r10 : Int32 × FM := GX99_bit (M9.2.2 379 a0 0) ((Int32.ofInt 64) - (M9.1 383 a0 0)) M9; ((r10.1 = 0 → (((lg_cmp (r10.2.2.1 384 a0 0) (Int64.ofInt 0)) = 0 → (((r10.2.1 385 a0 0) = 0 → True) ∧ (¬ ((r10.2.1 385 a0 0) = 0) → (HX99_bit (r10.2.2.2 379 a0 0) ((Int32.ofInt 63) - (r10.2.1 383 a0 0)) r10.2 ∧ True)))) ∧ (¬ ((lg_cmp (r10.2.2.1 384 a0 0) (Int64.ofInt 0)) = 0) → True))) ∧ (¬ (r10.1 = 0) → True))))) ∧ (¬ ((r8.1 + (r8.2.1 383 a0 0)) ≤ (Int32.ofInt 65)) → True))))
theorem gX99_toInteger_50 (a0 : Nat) (a1 : Int32) (a2 : Int32) (M : FM) (T : Ty M) (n_a0 : fm_is M 96 96 a0 = true) (h : HX99_toInteger_50 a0 a1 a2 M) : gd (FX99_toInteger_50 fN a0 a1 a2 M) (GX99_toInteger_50 a0 a1 a2 M) (OkR M) := by
  delta FX99_toInteger_50 BX99_toInteger_50
  refine gd_c n_a0 ?_
  refine gd_c n_a0 ?_
  have f39 := (tN_377 T.1 n_a0)
  have f40 := (fm_inl (i := (Int32.ofInt 0)) (tL_377 T.1 n_a0) (by decide))
  refine gd_c ⟨f39, f40⟩ ?_
  refine gd_b (gX99_put _ _ _ h.1) (fun K0 => ?_)
  have f1 := (ext_is K0.2 (Nat.zero_lt_succ _) n_a0)
  refine gd_c f1 ?_
  have f37 := (tN_378 K0.1.1 (ext_is K0.2 (Nat.zero_lt_succ _) n_a0))
  have f38 := (fm_inl (i := (Int32.ofInt 0)) (tL_378 K0.1.1 (ext_is K0.2 (Nat.zero_lt_succ _) n_a0)) (by decide))
  refine gd_c ⟨f37, f38⟩ ?_
  have f2 := (ext_is K0.2 (Nat.zero_lt_succ _) n_a0)
  refine gd_c f2 ?_
  have f3 := (ext_is K0.2 (Nat.zero_lt_succ _) n_a0)
  refine gd_c f3 ?_
  have f35 := (tN_376 K0.1.1 (ext_is K0.2 (Nat.zero_lt_succ _) n_a0))
  have f36 := (fm_inl (i := (Int32.ofInt 0)) (tL_376 K0.1.1 (ext_is K0.2 (Nat.zero_lt_succ _) n_a0)) (by decide))
  refine gd_c ⟨f35, f36⟩ ?_
  have f4 := (ext_is K0.2 (Nat.zero_lt_succ _) n_a0)
  refine gd_c f4 ?_
  have f5 := (ext_is K0.2 (Nat.zero_lt_succ _) n_a0)
  refine gd_c f5 ?_
  refine gd_c fz_0 ?_
  have f6 := (ext_is K0.2 (Nat.zero_lt_succ _) n_a0)
  refine gd_c f6 ?_
  refine gd_b (gX99_length _ _ h.2.1) (fun K7 => ?_)
  have f8 := (ext_is K7.2 (Nat.zero_lt_succ _) (ext_is K0.2 (Nat.zero_lt_succ _) n_a0))
  refine gd_c f8 ?_
  refine gd_fi (fun c9_0 => ?_) (fun c9_0 => ?_)
  · have f10 := (ext_is K7.2 (Nat.zero_lt_succ _) (ext_is K0.2 (Nat.zero_lt_succ _) n_a0))
    refine gd_c f10 ?_
    refine gd_b (gX99_roundTo _ _ _ _ (h.2.2.1 c9_0).1) (fun K11 => ?_)
    have f12 := (ext_is K11.2 (Nat.zero_lt_succ _) (ext_is K7.2 (Nat.zero_lt_succ _) (ext_is K0.2 (Nat.zero_lt_succ _) n_a0)))
    refine gd_c f12 ?_
    have f13 := (ext_is K11.2 (Nat.zero_lt_succ _) (ext_is K7.2 (Nat.zero_lt_succ _) (ext_is K0.2 (Nat.zero_lt_succ _) n_a0)))
    refine gd_c f13 ?_
    have f30 := (tN_379 K11.1.1 (ext_is K11.2 (Nat.zero_lt_succ _) (ext_is K7.2 (Nat.zero_lt_succ _) (ext_is K0.2 (Nat.zero_lt_succ _) n_a0))))
    refine gd_b (gX99_bit _ _ _ ⟨K11.1.1, K11.1.2⟩ f30 (h.2.2.1 c9_0).2.1) (fun K14 => ?_)
    refine gd_fi (fun c15_0 => ?_) (fun c15_0 => ?_)
    · have f16 := (ext_is K14.2.1 (Nat.zero_lt_succ _) (ext_is K11.2 (Nat.zero_lt_succ _) (ext_is K7.2 (Nat.zero_lt_succ _) (ext_is K0.2 (Nat.zero_lt_succ _) n_a0))))
      refine gd_c f16 ?_
      refine gd_fi (fun c17_0 => ?_) (fun c17_0 => ?_)
      · have f18 := (ext_is K14.2.1 (Nat.zero_lt_succ _) (ext_is K11.2 (Nat.zero_lt_succ _) (ext_is K7.2 (Nat.zero_lt_succ _) (ext_is K0.2 (Nat.zero_lt_succ _) n_a0))))
        refine gd_c f18 ?_
        refine gd_fi (fun c19_0 => ?_) (fun c19_0 => ?_)
        · have f20 := (ext_is K14.2.1 (Nat.zero_lt_succ _) (ext_is K11.2 (Nat.zero_lt_succ _) (ext_is K7.2 (Nat.zero_lt_succ _) (ext_is K0.2 (Nat.zero_lt_succ _) n_a0))))
          exact gd_tR (ext_tr K0.2 (ext_dI (ext_dI (ext_dI (ext_tr K7.2 (ext_tr K11.2 K14.2.1)))))) (gX99_toInteger_184 _ _ _ ⟨K14.1.1, K14.1.2⟩ f20 )
        · have f21 := (ext_is K14.2.1 (Nat.zero_lt_succ _) (ext_is K11.2 (Nat.zero_lt_succ _) (ext_is K7.2 (Nat.zero_lt_succ _) (ext_is K0.2 (Nat.zero_lt_succ _) n_a0))))
          refine gd_c f21 ?_
          have f22 := (ext_is K14.2.1 (Nat.zero_lt_succ _) (ext_is K11.2 (Nat.zero_lt_succ _) (ext_is K7.2 (Nat.zero_lt_succ _) (ext_is K0.2 (Nat.zero_lt_succ _) n_a0))))
          refine gd_c f22 ?_
          have f27 := (tN_379 K14.1.1 (ext_is K14.2.1 (Nat.zero_lt_succ _) (ext_is K11.2 (Nat.zero_lt_succ _) (ext_is K7.2 (Nat.zero_lt_succ _) (ext_is K0.2 (Nat.zero_lt_succ _) n_a0)))))
          refine gd_b (gX99_bit _ _ _ ⟨K14.1.1, K14.1.2⟩ f27 ((((h.2.2.1 c9_0).2.2.1 c15_0).1 c17_0).2 c19_0).1) (fun K23 => ?_)
          refine gd_fi (fun c24_0 => ?_) (fun c24_0 => ?_)
          · have f25 := (ext_is K23.2.1 (Nat.zero_lt_succ _) (ext_is K14.2.1 (Nat.zero_lt_succ _) (ext_is K11.2 (Nat.zero_lt_succ _) (ext_is K7.2 (Nat.zero_lt_succ _) (ext_is K0.2 (Nat.zero_lt_succ _) n_a0)))))
            exact gd_tR (ext_tr K0.2 (ext_dI (ext_dI (ext_dI (ext_tr K7.2 (ext_tr K11.2 (ext_tr K14.2.1 K23.2.1))))))) (gX99_toInteger_184 _ _ _ ⟨K23.1.1, K23.1.2⟩ f25 )
          · have f26 := (ext_is K23.2.1 (Nat.zero_lt_succ _) (ext_is K14.2.1 (Nat.zero_lt_succ _) (ext_is K11.2 (Nat.zero_lt_succ _) (ext_is K7.2 (Nat.zero_lt_succ _) (ext_is K0.2 (Nat.zero_lt_succ _) n_a0)))))
            exact gd_tR (ext_tr K0.2 (ext_dI (ext_dI (ext_dI (ext_tr K7.2 (ext_tr K11.2 (ext_tr K14.2.1 K23.2.1))))))) (gX99_toInteger_180 _ _ _ ⟨K23.1.1, K23.1.2⟩ f26 )
      · have f28 := (ext_is K14.2.1 (Nat.zero_lt_succ _) (ext_is K11.2 (Nat.zero_lt_succ _) (ext_is K7.2 (Nat.zero_lt_succ _) (ext_is K0.2 (Nat.zero_lt_succ _) n_a0))))
        exact gd_tR (ext_tr K0.2 (ext_dI (ext_dI (ext_dI (ext_tr K7.2 (ext_tr K11.2 K14.2.1)))))) (gX99_toInteger_184 _ _ _ ⟨K14.1.1, K14.1.2⟩ f28 )
    · have f29 := (ext_is K14.2.1 (Nat.zero_lt_succ _) (ext_is K11.2 (Nat.zero_lt_succ _) (ext_is K7.2 (Nat.zero_lt_succ _) (ext_is K0.2 (Nat.zero_lt_succ _) n_a0))))
      exact gd_tR (ext_tr K0.2 (ext_dI (ext_dI (ext_dI (ext_tr K7.2 (ext_tr K11.2 K14.2.1)))))) (gX99_toInteger_180 _ _ _ ⟨K14.1.1, K14.1.2⟩ f29 )
  · have f31 := (ext_is K7.2 (Nat.zero_lt_succ _) (ext_is K0.2 (Nat.zero_lt_succ _) n_a0))
    refine gd_c f31 ?_
    refine gd_fi (fun c32_0 => ?_) (fun c32_0 => ?_)
    · have f33 := (ext_is K7.2 (Nat.zero_lt_succ _) (ext_is K0.2 (Nat.zero_lt_succ _) n_a0))
      exact gd_tR (ext_tr K0.2 (ext_dI (ext_dI (ext_dI K7.2)))) (gX99_toInteger_119 _ _ _ _ ⟨K7.1.1, K7.1.2⟩ f33 )
    · have f34 := (ext_is K7.2 (Nat.zero_lt_succ _) (ext_is K0.2 (Nat.zero_lt_succ _) n_a0))
      exact gd_tR (ext_tr K0.2 (ext_dI (ext_dI (ext_dI K7.2)))) (gX99_toInteger_119 _ _ _ _ ⟨K7.1.1, K7.1.2⟩ f34 )
noncomputable def GX99_toInteger_45 (a1 : Int32) (s0 : Nat) (s1 : Int32) (M : FM) : Int64 × FM :=
  let r1 : Int64 × FM := GX99_beyond s0 s1 a1 M
  (r1.1, r1.2)
theorem gX99_toInteger_45 (a1 : Int32) (s0 : Nat) (s1 : Int32) (M : FM) (T : Ty M) (n_s0 : fm_is M 96 96 s0 = true) : gd (FX99_toInteger_45 fN a1 s0 s1 M) (GX99_toInteger_45 a1 s0 s1 M) (OkR M) := by
  delta FX99_toInteger_45 BX99_toInteger_45
  refine gd_c n_s0 ?_
  refine gd_b (gX99_beyond _ _ _ _ ⟨T.1, T.2⟩ n_s0 ) (fun K0 => ?_)
  exact ⟨rfl, ⟨K0.1.1, K0.1.2⟩, K0.2⟩
noncomputable def GX99_toInteger_44 (a1 : Int32) (s0 : Nat) (M : FM) : Int64 × FM :=
  GX99_toInteger_45 a1 s0 (Int32.ofInt 0) M
theorem gX99_toInteger_44 (a1 : Int32) (s0 : Nat) (M : FM) (T : Ty M) (n_s0 : fm_is M 96 96 s0 = true) : gd (FX99_toInteger_44 fN a1 s0 M) (GX99_toInteger_44 a1 s0 M) (OkR M) := by
  delta FX99_toInteger_44 BX99_toInteger_44
  exact gd_tR (ext_r _) (gX99_toInteger_45 _ _ _ _ ⟨T.1, T.2⟩ n_s0 )
noncomputable def GX99_toInteger_0 (a0 : Nat) (a1 : Int32) (a2 : Int32) (M : FM) : Int64 × FM :=
  let x1 : Nat := (M.2.2 375 a0 0)
  fi ((M.1 3 x1 (Int32.ofInt 0).toNatClampNeg) = (Int32.ofInt 1)) (
    GX99_toInteger_50 a0 a1 a2 M) (
    let x2 : Nat := (M.2.2 375 a0 0)
    fi ((M.1 3 x2 (Int32.ofInt 0).toNatClampNeg) = 0) (
      GX99_toInteger_50 a0 a1 a2 M) (
      let x3 : Nat := (M.2.2 375 a0 0)
      fi ((M.1 3 x3 (Int32.ofInt 0).toNatClampNeg) = (Int32.ofInt 2)) (
        let x4 : Nat := (M.2.2 376 a0 0)
        fi ((M.1 3 x4 (Int32.ofInt 0).toNatClampNeg) = (Int32.ofInt 1)) (
          GX99_toInteger_45 a1 a0 (Int32.ofInt 1) M) (
          GX99_toInteger_44 a1 a0 M)) (
        GX99_toInteger_44 a1 a0 M)))
def HX99_toInteger_0 (a0 : Nat) (a1 : Int32) (a2 : Int32) (M : FM) : Prop := let x1 : Nat := (M.2.2 375 a0 0); (((M.1 3 x1 (Int32.ofInt 0).toNatClampNeg) = (Int32.ofInt 1) → HX99_toInteger_50 a0 a1 a2 M) ∧ (¬ ((M.1 3 x1 (Int32.ofInt 0).toNatClampNeg) = (Int32.ofInt 1)) → let x2 : Nat := (M.2.2 375 a0 0); (((M.1 3 x2 (Int32.ofInt 0).toNatClampNeg) = 0 → HX99_toInteger_50 a0 a1 a2 M) ∧ (¬ ((M.1 3 x2 (Int32.ofInt 0).toNatClampNeg) = 0) → True))))
theorem gX99_toInteger_0 (a0 : Nat) (a1 : Int32) (a2 : Int32) (M : FM) (T : Ty M) (n_a0 : fm_is M 96 96 a0 = true) (h : HX99_toInteger_0 a0 a1 a2 M) : gd (FX99_toInteger_0 fN a0 a1 a2 M) (GX99_toInteger_0 a0 a1 a2 M) (OkR M) := by
  delta FX99_toInteger_0 BX99_toInteger_0
  refine gd_c n_a0 ?_
  have f10 := (tN_375 T.1 n_a0)
  have f11 := (fm_inl (i := (Int32.ofInt 0)) (tL_375 T.1 n_a0) (by decide))
  refine gd_c ⟨f10, f11⟩ ?_
  refine gd_fi (fun c0_0 => ?_) (fun c0_0 => ?_)
  · exact gd_tR (ext_r _) (gX99_toInteger_50 _ _ _ _ ⟨T.1, T.2⟩ n_a0 (h.1 c0_0))
  · refine gd_c n_a0 ?_
    have f8 := (tN_375 T.1 n_a0)
    have f9 := (fm_inl (i := (Int32.ofInt 0)) (tL_375 T.1 n_a0) (by decide))
    refine gd_c ⟨f8, f9⟩ ?_
    refine gd_fi (fun c1_0 => ?_) (fun c1_0 => ?_)
    · exact gd_tR (ext_r _) (gX99_toInteger_50 _ _ _ _ ⟨T.1, T.2⟩ n_a0 ((h.2 c0_0).1 c1_0))
    · refine gd_c n_a0 ?_
      have f6 := (tN_375 T.1 n_a0)
      have f7 := (fm_inl (i := (Int32.ofInt 0)) (tL_375 T.1 n_a0) (by decide))
      refine gd_c ⟨f6, f7⟩ ?_
      refine gd_fi (fun c2_0 => ?_) (fun c2_0 => ?_)
      · refine gd_c n_a0 ?_
        have f4 := (tN_376 T.1 n_a0)
        have f5 := (fm_inl (i := (Int32.ofInt 0)) (tL_376 T.1 n_a0) (by decide))
        refine gd_c ⟨f4, f5⟩ ?_
        refine gd_fi (fun c3_0 => ?_) (fun c3_0 => ?_)
        · exact gd_tR (ext_r _) (gX99_toInteger_45 _ _ _ _ ⟨T.1, T.2⟩ n_a0 )
        · exact gd_tR (ext_r _) (gX99_toInteger_44 _ _ _ ⟨T.1, T.2⟩ n_a0 )
      · exact gd_tR (ext_r _) (gX99_toInteger_44 _ _ _ ⟨T.1, T.2⟩ n_a0 )
noncomputable def GX99_toInteger (a0 : Nat) (a1 : Int32) (a2 : Int32) (M : FM) : Int64 × FM := GX99_toInteger_0 a0 a1 a2 M
def HX99_toInteger (a0 : Nat) (a1 : Int32) (a2 : Int32) (M : FM) : Prop := HX99_toInteger_0 a0 a1 a2 M
theorem gX99_toInteger (a0 : Nat) (a1 : Int32) (a2 : Int32) (M : FM) (T : Ty M) (n_a0 : fm_is M 96 96 a0 = true) (h : HX99_toInteger a0 a1 a2 M) : gd (FX99_toInteger fN a0 a1 a2 M) (GX99_toInteger a0 a1 a2 M) (OkR M) := gX99_toInteger_0 a0 a1 a2 M T n_a0 h
noncomputable def GX99_tell_0 (a0 : Nat) (a1 : Int64) (M : FM) : Int32 × FM :=
  let M1 : FM := fm_sL M 370 a0 0 a1
  ((Int32.ofInt 1), M1)
theorem gX99_tell_0 (a0 : Nat) (a1 : Int64) (M : FM) (T : Ty M) (n_a0 : fm_is M 96 96 a0 = true) : gd (FX99_tell_0 a0 a1 M) (GX99_tell_0 a0 a1 M) (OkR M) := by
  delta FX99_tell_0 BX99_tell_0
  refine gd_c n_a0 ?_
  exact ⟨rfl, ⟨T.1, T.2⟩, (ext_dL (ext_r _))⟩
noncomputable def GX99_tell (a0 : Nat) (a1 : Int64) (M : FM) : Int32 × FM := GX99_tell_0 a0 a1 M
theorem gX99_tell (a0 : Nat) (a1 : Int64) (M : FM) (T : Ty M) (n_a0 : fm_is M 96 96 a0 = true) : gd (FX99_tell a0 a1 M) (GX99_tell a0 a1 M) (OkR M) := gX99_tell_0 a0 a1 M T n_a0 
noncomputable def GX99_fromInteger_83 (a0 : Nat) (a4 : Int32) (a5 : Int32) (s0 : Nat) (s1 : Int64) (M : FM) : Int64 × FM :=
  let M1 : FM := GX99_put s0 s1 M
  let M2 : FM := fm_sI M1 383 a0 0 (Int32.ofInt 0)
  let M3 : FM := fm_sI M2 381 a0 0 (Int32.ofInt 0)
  let r4 : Int64 × FM := GX99_rounded a0 a4 a5 M3
  (r4.1, r4.2)
def HX99_fromInteger_83 (a0 : Nat) (a4 : Int32) (a5 : Int32) (s0 : Nat) (s1 : Int64) (M : FM) : Prop := (HX99_put s0 s1 M ∧ let M1 : FM := GX99_put s0 s1 M; let M2 : FM := fm_sI M1 383 a0 0 (Int32.ofInt 0); let M3 : FM := fm_sI M2 381 a0 0 (Int32.ofInt 0); (HX99_rounded a0 a4 a5 M3 ∧ True))
theorem gX99_fromInteger_83 (a0 : Nat) (a4 : Int32) (a5 : Int32) (s0 : Nat) (s1 : Int64) (M : FM) (T : Ty M) (n_a0 : fm_is M 96 96 a0 = true) (h : HX99_fromInteger_83 a0 a4 a5 s0 s1 M) : gd (FX99_fromInteger_83 fN a0 a4 a5 s0 s1 M) (GX99_fromInteger_83 a0 a4 a5 s0 s1 M) (OkR M) := by
  delta FX99_fromInteger_83 BX99_fromInteger_83
  refine gd_b (gX99_put _ _ _ h.1) (fun K0 => ?_)
  have f1 := (ext_is K0.2 (Nat.zero_lt_succ _) n_a0)
  refine gd_c f1 ?_
  have f2 := (ext_is K0.2 (Nat.zero_lt_succ _) n_a0)
  refine gd_c f2 ?_
  refine gd_c fz_0 ?_
  have f3 := (ext_is K0.2 (Nat.zero_lt_succ _) n_a0)
  refine gd_c f3 ?_
  have f5 := (ext_is K0.2 (Nat.zero_lt_succ _) n_a0)
  refine gd_b (gX99_rounded _ _ _ _ ⟨K0.1.1, (tyb_sIb (f := 381) rfl (tyb_sI (f := 383) rfl K0.1.2) fz_0)⟩ f5 h.2.1) (fun K4 => ?_)
  exact ⟨rfl, ⟨K4.1.1, K4.1.2⟩, (ext_tr K0.2 (ext_dI (ext_dI K4.2)))⟩
noncomputable def GX99_fromInteger_59 (a0 : Nat) (a4 : Int32) (a5 : Int32) (a6 : Int64) (s0 : Nat) (s1 : Int32) (M : FM) : Int64 × FM :=
  let M1 : FM := fm_sI M 382 s0 0 s1
  fi ((M1.1 382 a0 0) = (Int32.ofInt 1)) (
    GX99_fromInteger_83 a0 a4 a5 (M1.2.2 379 a0 0) ((Int64.ofInt 0) - a6) M1) (
    GX99_fromInteger_83 a0 a4 a5 (M1.2.2 379 a0 0) a6 M1)
def HX99_fromInteger_59 (a0 : Nat) (a4 : Int32) (a5 : Int32) (a6 : Int64) (s0 : Nat) (s1 : Int32) (M : FM) : Prop := let M1 : FM := fm_sI M 382 s0 0 s1; (((M1.1 382 a0 0) = (Int32.ofInt 1) → HX99_fromInteger_83 a0 a4 a5 (M1.2.2 379 a0 0) ((Int64.ofInt 0) - a6) M1) ∧ (¬ ((M1.1 382 a0 0) = (Int32.ofInt 1)) → HX99_fromInteger_83 a0 a4 a5 (M1.2.2 379 a0 0) a6 M1))
theorem gX99_fromInteger_59 (a0 : Nat) (a4 : Int32) (a5 : Int32) (a6 : Int64) (s0 : Nat) (s1 : Int32) (M : FM) (T : Ty M) (n_s0 : fm_is M 96 96 s0 = true) (n_a0 : fm_is M 96 96 a0 = true) (h : HX99_fromInteger_59 a0 a4 a5 a6 s0 s1 M) : gd (FX99_fromInteger_59 fN a0 a4 a5 a6 s0 s1 M) (GX99_fromInteger_59 a0 a4 a5 a6 s0 s1 M) (OkR M) := by
  delta FX99_fromInteger_59 BX99_fromInteger_59
  refine gd_c n_s0 ?_
  refine gd_c n_a0 ?_
  refine gd_c n_a0 ?_
  refine gd_fi (fun c0_0 => ?_) (fun c0_0 => ?_)
  · exact gd_tR (ext_dI (ext_r _)) (gX99_fromInteger_83 _ _ _ _ _ _ ⟨T.1, (tyb_sI (f := 382) rfl T.2)⟩ n_a0 (h.1 c0_0))
  · exact gd_tR (ext_dI (ext_r _)) (gX99_fromInteger_83 _ _ _ _ _ _ ⟨T.1, (tyb_sI (f := 382) rfl T.2)⟩ n_a0 (h.2 c0_0))
noncomputable def GX99_fromInteger_58 (a0 : Nat) (a4 : Int32) (a5 : Int32) (a6 : Int64) (s0 : Nat) (M : FM) : Int64 × FM :=
  GX99_fromInteger_59 a0 a4 a5 a6 s0 (Int32.ofInt 0) M
def HX99_fromInteger_58 (a0 : Nat) (a4 : Int32) (a5 : Int32) (a6 : Int64) (s0 : Nat) (M : FM) : Prop := HX99_fromInteger_59 a0 a4 a5 a6 s0 (Int32.ofInt 0) M
theorem gX99_fromInteger_58 (a0 : Nat) (a4 : Int32) (a5 : Int32) (a6 : Int64) (s0 : Nat) (M : FM) (T : Ty M) (n_s0 : fm_is M 96 96 s0 = true) (n_a0 : fm_is M 96 96 a0 = true) (h : HX99_fromInteger_58 a0 a4 a5 a6 s0 M) : gd (FX99_fromInteger_58 fN a0 a4 a5 a6 s0 M) (GX99_fromInteger_58 a0 a4 a5 a6 s0 M) (OkR M) := by
  delta FX99_fromInteger_58 BX99_fromInteger_58
  exact gd_tR (ext_r _) (gX99_fromInteger_59 _ _ _ _ _ _ _ ⟨T.1, T.2⟩ n_s0 n_a0 h)
noncomputable def GX99_fromInteger_24 (a0 : Nat) (a3 : Int32) (a4 : Int32) (a5 : Int32) (s0 : Int64) (M : FM) : Int64 × FM :=
  fi ((lg_cmp s0 (Int64.ofInt 0)) = 0) (
    let r1 : Int64 × FM := GX99_zero a0 (Int32.ofInt 0) a4 M
    (r1.1, r1.2)) (
    fi (0 ≤ (lg_cmp s0 (Int64.ofInt 0))) (
      GX99_fromInteger_58 a0 a4 a5 s0 a0 M) (
      fi (a3 = (Int32.ofInt 3)) (
        GX99_fromInteger_58 a0 a4 a5 s0 a0 M) (
        GX99_fromInteger_59 a0 a4 a5 s0 a0 (Int32.ofInt 1) M)))
def HX99_fromInteger_24 (a0 : Nat) (a3 : Int32) (a4 : Int32) (a5 : Int32) (s0 : Int64) (M : FM) : Prop := (((lg_cmp s0 (Int64.ofInt 0)) = 0 → True) ∧ (¬ ((lg_cmp s0 (Int64.ofInt 0)) = 0) → ((0 ≤ (lg_cmp s0 (Int64.ofInt 0)) → HX99_fromInteger_58 a0 a4 a5 s0 a0 M) ∧ (¬ (0 ≤ (lg_cmp s0 (Int64.ofInt 0))) → ((a3 = (Int32.ofInt 3) → HX99_fromInteger_58 a0 a4 a5 s0 a0 M) ∧ (¬ (a3 = (Int32.ofInt 3)) → HX99_fromInteger_59 a0 a4 a5 s0 a0 (Int32.ofInt 1) M))))))
theorem gX99_fromInteger_24 (a0 : Nat) (a3 : Int32) (a4 : Int32) (a5 : Int32) (s0 : Int64) (M : FM) (T : Ty M) (n_a0 : fm_is M 96 96 a0 = true) (h : HX99_fromInteger_24 a0 a3 a4 a5 s0 M) : gd (FX99_fromInteger_24 fN a0 a3 a4 a5 s0 M) (GX99_fromInteger_24 a0 a3 a4 a5 s0 M) (OkR M) := by
  delta FX99_fromInteger_24 BX99_fromInteger_24
  refine gd_fi (fun c0_0 => ?_) (fun c0_0 => ?_)
  · refine gd_c n_a0 ?_
    refine gd_b (gX99_zero _ _ _ _ ⟨T.1, T.2⟩  ) (fun K1 => ?_)
    exact ⟨rfl, ⟨K1.1.1, K1.1.2⟩, K1.2⟩
  · refine gd_fi (fun c2_0 => ?_) (fun c2_0 => ?_)
    · exact gd_tR (ext_r _) (gX99_fromInteger_58 _ _ _ _ _ _ ⟨T.1, T.2⟩ n_a0 n_a0 ((h.2 c0_0).1 c2_0))
    · refine gd_fi (fun c3_0 => ?_) (fun c3_0 => ?_)
      · exact gd_tR (ext_r _) (gX99_fromInteger_58 _ _ _ _ _ _ ⟨T.1, T.2⟩ n_a0 n_a0 (((h.2 c0_0).2 c2_0).1 c3_0))
      · exact gd_tR (ext_r _) (gX99_fromInteger_59 _ _ _ _ _ _ _ ⟨T.1, T.2⟩ n_a0 n_a0 (((h.2 c0_0).2 c2_0).2 c3_0))
noncomputable def GX99_fromInteger_0 (a0 : Nat) (a1 : Int64) (a3 : Int32) (a4 : Int32) (a5 : Int32) (M : FM) : Int64 × FM :=
  fi (a3 = 0) (
    GX99_fromInteger_24 a0 a3 a4 a5 a1.toInt32.toInt64 M) (
    fi (a3 = (Int32.ofInt 1)) (
      GX99_fromInteger_24 a0 a3 a4 a5 (a1 &&& (Int64.ofInt 4294967295)) M) (
      GX99_fromInteger_24 a0 a3 a4 a5 a1 M))
def HX99_fromInteger_0 (a0 : Nat) (a1 : Int64) (a3 : Int32) (a4 : Int32) (a5 : Int32) (M : FM) : Prop := ((a3 = 0 → HX99_fromInteger_24 a0 a3 a4 a5 a1.toInt32.toInt64 M) ∧ (¬ (a3 = 0) → ((a3 = (Int32.ofInt 1) → HX99_fromInteger_24 a0 a3 a4 a5 (a1 &&& (Int64.ofInt 4294967295)) M) ∧ (¬ (a3 = (Int32.ofInt 1)) → HX99_fromInteger_24 a0 a3 a4 a5 a1 M))))
theorem gX99_fromInteger_0 (a0 : Nat) (a1 : Int64) (a3 : Int32) (a4 : Int32) (a5 : Int32) (M : FM) (T : Ty M) (n_a0 : fm_is M 96 96 a0 = true) (h : HX99_fromInteger_0 a0 a1 a3 a4 a5 M) : gd (FX99_fromInteger_0 fN a0 a1 a3 a4 a5 M) (GX99_fromInteger_0 a0 a1 a3 a4 a5 M) (OkR M) := by
  delta FX99_fromInteger_0 BX99_fromInteger_0
  refine gd_fi (fun c0_0 => ?_) (fun c0_0 => ?_)
  · exact gd_tR (ext_r _) (gX99_fromInteger_24 _ _ _ _ _ _ ⟨T.1, T.2⟩ n_a0 (h.1 c0_0))
  · refine gd_fi (fun c1_0 => ?_) (fun c1_0 => ?_)
    · exact gd_tR (ext_r _) (gX99_fromInteger_24 _ _ _ _ _ _ ⟨T.1, T.2⟩ n_a0 ((h.2 c0_0).1 c1_0))
    · exact gd_tR (ext_r _) (gX99_fromInteger_24 _ _ _ _ _ _ ⟨T.1, T.2⟩ n_a0 ((h.2 c0_0).2 c1_0))
noncomputable def GX99_fromInteger (a0 : Nat) (a1 : Int64) (a3 : Int32) (a4 : Int32) (a5 : Int32) (M : FM) : Int64 × FM := GX99_fromInteger_0 a0 a1 a3 a4 a5 M
def HX99_fromInteger (a0 : Nat) (a1 : Int64) (a3 : Int32) (a4 : Int32) (a5 : Int32) (M : FM) : Prop := HX99_fromInteger_0 a0 a1 a3 a4 a5 M
theorem gX99_fromInteger (a0 : Nat) (a1 : Int64) (a3 : Int32) (a4 : Int32) (a5 : Int32) (M : FM) (T : Ty M) (n_a0 : fm_is M 96 96 a0 = true) (h : HX99_fromInteger a0 a1 a3 a4 a5 M) : gd (FX99_fromInteger fN a0 a1 a3 a4 a5 M) (GX99_fromInteger a0 a1 a3 a4 a5 M) (OkR M) := gX99_fromInteger_0 a0 a1 a3 a4 a5 M T n_a0 h
noncomputable def GX99_other_68 (s0 : Int64) (M : FM) : Int64 × FM :=
  (s0, M)
theorem gX99_other_68 (s0 : Int64) (M : FM) (T : Ty M) : gd (FX99_other_68 fN s0 M) (GX99_other_68 s0 M) (OkR M) := by
  delta FX99_other_68 BX99_other_68
  exact ⟨rfl, ⟨T.1, T.2⟩, (ext_r _)⟩
noncomputable def GX99_other_0 (a0 : Nat) (a1 : Int32) (a2 : Int32) (M : FM) : Int64 × FM :=
  let r1 : Int64 × FM := GX99_none a0 (Int32.ofInt 1) a1 M
  fi ((lg_cmp r1.1 (Int64.ofInt (-1))) = 0) (
    let x2 : Nat := (r1.2.2.2 375 a0 0)
    fi ((r1.2.1 3 x2 (Int32.ofInt 0).toNatClampNeg) = (Int32.ofInt 1)) (
      let x3 : Nat := (r1.2.2.2 377 a0 0)
      let M4 : FM := GX99_put (r1.2.2.2 379 a0 0) (r1.2.2.1 3 x3 (Int32.ofInt 0).toNatClampNeg) r1.2
      let x5 : Nat := (M4.2.2 378 a0 0)
      let M6 : FM := fm_sI M4 383 a0 0 (M4.1 3 x5 (Int32.ofInt 0).toNatClampNeg)
      let x7 : Nat := (M6.2.2 376 a0 0)
      let M8 : FM := fm_sI M6 382 a0 0 (M6.1 3 x7 (Int32.ofInt 0).toNatClampNeg)
      let M9 : FM := fm_sI M8 381 a0 0 (Int32.ofInt 0)
      let r10 : Int64 × FM := GX99_rounded a0 a1 a2 M9
      (r10.1, r10.2)) (
      let x11 : Nat := (r1.2.2.2 375 a0 0)
      fi ((r1.2.1 3 x11 (Int32.ofInt 0).toNatClampNeg) = 0) (
        let x12 : Nat := (r1.2.2.2 376 a0 0)
        let r13 : Int64 × FM := GX99_zero a0 (r1.2.1 3 x12 (Int32.ofInt 0).toNatClampNeg) a1 r1.2
        GX99_other_68 r13.1 r13.2) (
        let x14 : Nat := (r1.2.2.2 376 a0 0)
        let x15 : Nat := (r1.2.2.2 374 a0 0)
        let r16 : Int64 × FM := GX99_pack (r1.2.1 3 x14 (Int32.ofInt 0).toNatClampNeg) ((r1.2.1 3 x15 a1.toNatClampNeg).toInt64) (Int64.ofInt 0) a1 r1.2
        GX99_other_68 r16.1 r16.2))) (
    (r1.1, r1.2))
def HX99_other_0 (a0 : Nat) (a1 : Int32) (a2 : Int32) (M : FM) : Prop := (HX99_none a0 (Int32.ofInt 1) a1 M ∧ let r1 : Int64 × FM := GX99_none a0 (Int32.ofInt 1) a1 M; (((lg_cmp r1.1 (Int64.ofInt (-1))) = 0 → let x2 : Nat := (r1.2.2.2 375 a0 0); (((r1.2.1 3 x2 (Int32.ofInt 0).toNatClampNeg) = (Int32.ofInt 1) → let x3 : Nat := (r1.2.2.2 377 a0 0); (HX99_put (r1.2.2.2 379 a0 0) (r1.2.2.1 3 x3 (Int32.ofInt 0).toNatClampNeg) r1.2 ∧ let M4 : FM := GX99_put (r1.2.2.2 379 a0 0) (r1.2.2.1 3 x3 (Int32.ofInt 0).toNatClampNeg) r1.2; let x5 : Nat := (M4.2.2 378 a0 0); let M6 : FM := fm_sI M4 383 a0 0 (M4.1 3 x5 (Int32.ofInt 0).toNatClampNeg); let x7 : Nat := (M6.2.2 376 a0 0); let M8 : FM := fm_sI M6 382 a0 0 (M6.1 3 x7 (Int32.ofInt 0).toNatClampNeg); let M9 : FM := fm_sI M8 381 a0 0 (Int32.ofInt 0); (HX99_rounded a0 a1 a2 M9 ∧ True))) ∧ (¬ ((r1.2.1 3 x2 (Int32.ofInt 0).toNatClampNeg) = (Int32.ofInt 1)) → let x11 : Nat := (r1.2.2.2 375 a0 0); (((r1.2.1 3 x11 (Int32.ofInt 0).toNatClampNeg) = 0 → True) ∧ (¬ ((r1.2.1 3 x11 (Int32.ofInt 0).toNatClampNeg) = 0) → let x14 : Nat := (r1.2.2.2 376 a0 0); let x15 : Nat := (r1.2.2.2 374 a0 0); (fm_in r1.2 x15 a1 = true ∧ True)))))) ∧ (¬ ((lg_cmp r1.1 (Int64.ofInt (-1))) = 0) → True)))
theorem gX99_other_0 (a0 : Nat) (a1 : Int32) (a2 : Int32) (M : FM) (T : Ty M) (n_a0 : fm_is M 96 96 a0 = true) (h : HX99_other_0 a0 a1 a2 M) : gd (FX99_other_0 fN a0 a1 a2 M) (GX99_other_0 a0 a1 a2 M) (OkR M) := by
  delta FX99_other_0 BX99_other_0
  refine gd_c n_a0 ?_
  refine gd_b (gX99_none _ _ _ _ h.1) (fun K0 => ?_)
  refine gd_fi (fun c1_0 => ?_) (fun c1_0 => ?_)
  · have f2 := (ext_is K0.2 (Nat.zero_lt_succ _) n_a0)
    refine gd_c f2 ?_
    have f37 := (tN_375 K0.1.1 (ext_is K0.2 (Nat.zero_lt_succ _) n_a0))
    have f38 := (fm_inl (i := (Int32.ofInt 0)) (tL_375 K0.1.1 (ext_is K0.2 (Nat.zero_lt_succ _) n_a0)) (by decide))
    refine gd_c ⟨f37, f38⟩ ?_
    refine gd_fi (fun c3_0 => ?_) (fun c3_0 => ?_)
    · have f4 := (ext_is K0.2 (Nat.zero_lt_succ _) n_a0)
      refine gd_c f4 ?_
      have f5 := (ext_is K0.2 (Nat.zero_lt_succ _) n_a0)
      refine gd_c f5 ?_
      have f19 := (tN_377 K0.1.1 (ext_is K0.2 (Nat.zero_lt_succ _) n_a0))
      have f20 := (fm_inl (i := (Int32.ofInt 0)) (tL_377 K0.1.1 (ext_is K0.2 (Nat.zero_lt_succ _) n_a0)) (by decide))
      refine gd_c ⟨f19, f20⟩ ?_
      refine gd_b (gX99_put _ _ _ ((h.2.1 c1_0).1 c3_0).1) (fun K6 => ?_)
      have f7 := (ext_is K6.2 (Nat.zero_lt_succ _) (ext_is K0.2 (Nat.zero_lt_succ _) n_a0))
      refine gd_c f7 ?_
      have f17 := (tN_378 K6.1.1 (ext_is K6.2 (Nat.zero_lt_succ _) (ext_is K0.2 (Nat.zero_lt_succ _) n_a0)))
      have f18 := (fm_inl (i := (Int32.ofInt 0)) (tL_378 K6.1.1 (ext_is K6.2 (Nat.zero_lt_succ _) (ext_is K0.2 (Nat.zero_lt_succ _) n_a0))) (by decide))
      refine gd_c ⟨f17, f18⟩ ?_
      have f8 := (ext_is K6.2 (Nat.zero_lt_succ _) (ext_is K0.2 (Nat.zero_lt_succ _) n_a0))
      refine gd_c f8 ?_
      have f9 := (ext_is K6.2 (Nat.zero_lt_succ _) (ext_is K0.2 (Nat.zero_lt_succ _) n_a0))
      refine gd_c f9 ?_
      have f15 := (tN_376 K6.1.1 (ext_is K6.2 (Nat.zero_lt_succ _) (ext_is K0.2 (Nat.zero_lt_succ _) n_a0)))
      have f16 := (fm_inl (i := (Int32.ofInt 0)) (tL_376 K6.1.1 (ext_is K6.2 (Nat.zero_lt_succ _) (ext_is K0.2 (Nat.zero_lt_succ _) n_a0))) (by decide))
      refine gd_c ⟨f15, f16⟩ ?_
      have f10 := (ext_is K6.2 (Nat.zero_lt_succ _) (ext_is K0.2 (Nat.zero_lt_succ _) n_a0))
      refine gd_c f10 ?_
      have f11 := (ext_is K6.2 (Nat.zero_lt_succ _) (ext_is K0.2 (Nat.zero_lt_succ _) n_a0))
      refine gd_c f11 ?_
      refine gd_c fz_0 ?_
      have f12 := (ext_is K6.2 (Nat.zero_lt_succ _) (ext_is K0.2 (Nat.zero_lt_succ _) n_a0))
      refine gd_c f12 ?_
      have f14 := (ext_is K6.2 (Nat.zero_lt_succ _) (ext_is K0.2 (Nat.zero_lt_succ _) n_a0))
      refine gd_b (gX99_rounded _ _ _ _ ⟨K6.1.1, (tyb_sIb (f := 381) rfl (tyb_sI (f := 382) rfl (tyb_sI (f := 383) rfl K6.1.2)) fz_0)⟩ f14 ((h.2.1 c1_0).1 c3_0).2.1) (fun K13 => ?_)
      exact ⟨rfl, ⟨K13.1.1, K13.1.2⟩, (ext_tr K0.2 (ext_tr K6.2 (ext_dI (ext_dI (ext_dI K13.2)))))⟩
    · have f21 := (ext_is K0.2 (Nat.zero_lt_succ _) n_a0)
      refine gd_c f21 ?_
      have f35 := (tN_375 K0.1.1 (ext_is K0.2 (Nat.zero_lt_succ _) n_a0))
      have f36 := (fm_inl (i := (Int32.ofInt 0)) (tL_375 K0.1.1 (ext_is K0.2 (Nat.zero_lt_succ _) n_a0)) (by decide))
      refine gd_c ⟨f35, f36⟩ ?_
      refine gd_fi (fun c22_0 => ?_) (fun c22_0 => ?_)
      · have f23 := (ext_is K0.2 (Nat.zero_lt_succ _) n_a0)
        refine gd_c f23 ?_
        have f26 := (tN_376 K0.1.1 (ext_is K0.2 (Nat.zero_lt_succ _) n_a0))
        have f27 := (fm_inl (i := (Int32.ofInt 0)) (tL_376 K0.1.1 (ext_is K0.2 (Nat.zero_lt_succ _) n_a0)) (by decide))
        refine gd_c ⟨f26, f27⟩ ?_
        have f24 := (ext_is K0.2 (Nat.zero_lt_succ _) n_a0)
        refine gd_c f24 ?_
        refine gd_b (gX99_zero _ _ _ _ ⟨K0.1.1, K0.1.2⟩  ) (fun K25 => ?_)
        exact gd_tR (ext_tr K0.2 K25.2) (gX99_other_68 _ _ ⟨K25.1.1, K25.1.2⟩  )
      · have f28 := (ext_is K0.2 (Nat.zero_lt_succ _) n_a0)
        refine gd_c f28 ?_
        have f33 := (tN_376 K0.1.1 (ext_is K0.2 (Nat.zero_lt_succ _) n_a0))
        have f34 := (fm_inl (i := (Int32.ofInt 0)) (tL_376 K0.1.1 (ext_is K0.2 (Nat.zero_lt_succ _) n_a0)) (by decide))
        refine gd_c ⟨f33, f34⟩ ?_
        have f29 := (ext_is K0.2 (Nat.zero_lt_succ _) n_a0)
        refine gd_c f29 ?_
        have f31 := (tN_374 K0.1.1 (ext_is K0.2 (Nat.zero_lt_succ _) n_a0))
        have f32 := (((h.2.1 c1_0).2 c3_0).2 c22_0).1
        refine gd_c ⟨f31, f32⟩ ?_
        refine gd_b (gX99_pack _ _ _ _ _ ⟨K0.1.1, K0.1.2⟩  ) (fun K30 => ?_)
        exact gd_tR (ext_tr K0.2 K30.2) (gX99_other_68 _ _ ⟨K30.1.1, K30.1.2⟩  )
  · exact ⟨rfl, ⟨K0.1.1, K0.1.2⟩, K0.2⟩
noncomputable def GX99_other (a0 : Nat) (a1 : Int32) (a2 : Int32) (M : FM) : Int64 × FM := GX99_other_0 a0 a1 a2 M
def HX99_other (a0 : Nat) (a1 : Int32) (a2 : Int32) (M : FM) : Prop := HX99_other_0 a0 a1 a2 M
theorem gX99_other (a0 : Nat) (a1 : Int32) (a2 : Int32) (M : FM) (T : Ty M) (n_a0 : fm_is M 96 96 a0 = true) (h : HX99_other a0 a1 a2 M) : gd (FX99_other fN a0 a1 a2 M) (GX99_other a0 a1 a2 M) (OkR M) := gX99_other_0 a0 a1 a2 M T n_a0 h
noncomputable def GX99_arithmetic_186 (s0 : Int32) (M : FM) : Int32 × FM :=
  (s0, M)
theorem gX99_arithmetic_186 (s0 : Int32) (M : FM) (T : Ty M) : gd (FX99_arithmetic_186 fN s0 M) (GX99_arithmetic_186 s0 M) (OkR M) := by
  delta FX99_arithmetic_186 BX99_arithmetic_186
  exact ⟨rfl, ⟨T.1, T.2⟩, (ext_r _)⟩
noncomputable def GX99_arithmetic_94 (s0 : Int32) (M : FM) : Int32 × FM :=
  (s0, M)
theorem gX99_arithmetic_94 (s0 : Int32) (M : FM) (T : Ty M) : gd (FX99_arithmetic_94 fN s0 M) (GX99_arithmetic_94 s0 M) (OkR M) := by
  delta FX99_arithmetic_94 BX99_arithmetic_94
  exact ⟨rfl, ⟨T.1, T.2⟩, (ext_r _)⟩
noncomputable def GX99_arithmetic_0 (a0 : Nat) (a1 : Int32) (a2 : Int32) (a3 : Int32) (a4 : Int32) (a5 : Int32) (a6 : Int32) (a7 : Int64) (M : FM) : Int32 × FM :=
  fi ((Int32.ofInt 2) ≤ a1) (
    fi (a1 = (Int32.ofInt 2)) (
      let r1 : Int64 × FM := GX99_multiplied a0 a5 a6 M
      let r2 : Int32 × FM := GX99_write a0 a2 r1.1 a5 r1.2
      (r2.1, r2.2)) (
      fi (a1 = (Int32.ofInt 3)) (
        let r3 : Int64 × FM := GX99_divided a0 a5 a6 M
        let r4 : Int32 × FM := GX99_write a0 a2 r3.1 a5 r3.2
        (r4.1, r4.2)) (
        fi (a1 = (Int32.ofInt 11)) (
          fi (a4 = 0) (
            let r5 : Int64 × FM := GX99_root a0 a5 a6 M
            let r6 : Int32 × FM := GX99_write a0 a2 r5.1 a5 r5.2
            GX99_arithmetic_94 r6.1 r6.2) (
            GX99_arithmetic_94 (Int32.ofInt (-1)) M)) (
          fi (a1 = (Int32.ofInt 8)) (
            fi (a4 = ((Int32.ofInt 1) - a5)) (
              let M7 : FM := GX99_read a0 (Int32.ofInt 0) a3 ((Int32.ofInt 1) - a5) M
              let r8 : Int64 × FM := GX99_other a0 a5 a6 M7
              let r9 : Int32 × FM := GX99_write a0 a2 r8.1 a5 r8.2
              (r9.1, r9.2)) (
              ((Int32.ofInt (-1)), M))) (
            fi (a4 ≤ (Int32.ofInt 3)) (
              fi (a1 = (Int32.ofInt 24)) (
                let r10 : Int64 × FM := GX99_toInteger a0 a4 a6 M
                let r11 : Int32 × FM := GX99_tell a0 r10.1 r10.2
                GX99_arithmetic_186 r11.1 r11.2) (
                let r12 : Int64 × FM := GX99_fromInteger a0 a7 a4 a5 a6 M
                let r13 : Int32 × FM := GX99_write a0 a2 r12.1 a5 r12.2
                GX99_arithmetic_186 r13.1 r13.2)) (
              ((Int32.ofInt (-1)), M))))))) (
    let r14 : Int64 × FM := GX99_added a0 a1 a5 a6 M
    let r15 : Int32 × FM := GX99_write a0 a2 r14.1 a5 r14.2
    (r15.1, r15.2))
def HX99_arithmetic_0 (a0 : Nat) (a1 : Int32) (a2 : Int32) (a3 : Int32) (a4 : Int32) (a5 : Int32) (a6 : Int32) (a7 : Int64) (M : FM) : Prop := (((Int32.ofInt 2) ≤ a1 → ((a1 = (Int32.ofInt 2) → (HX99_multiplied a0 a5 a6 M ∧ let r1 : Int64 × FM := GX99_multiplied a0 a5 a6 M; (HX99_write a0 a2 r1.1 a5 r1.2 ∧ True))) ∧ (¬ (a1 = (Int32.ofInt 2)) → ((a1 = (Int32.ofInt 3) → (HX99_divided a0 a5 a6 M ∧ let r3 : Int64 × FM := GX99_divided a0 a5 a6 M; (HX99_write a0 a2 r3.1 a5 r3.2 ∧ True))) ∧ (¬ (a1 = (Int32.ofInt 3)) → ((a1 = (Int32.ofInt 11) → ((a4 = 0 → (HX99_root a0 a5 a6 M ∧ let r5 : Int64 × FM := GX99_root a0 a5 a6 M; (HX99_write a0 a2 r5.1 a5 r5.2 ∧ True))) ∧ (¬ (a4 = 0) → True))) ∧ (¬ (a1 = (Int32.ofInt 11)) → ((a1 = (Int32.ofInt 8) → ((a4 = ((Int32.ofInt 1) - a5) → (HX99_read a0 (Int32.ofInt 0) a3 ((Int32.ofInt 1) - a5) M ∧ let M7 : FM := GX99_read a0 (Int32.ofInt 0) a3 ((Int32.ofInt 1) - a5) M; (HX99_other a0 a5 a6 M7 ∧ let r8 : Int64 × FM := GX99_other a0 a5 a6 M7; (HX99_write a0 a2 r8.1 a5 r8.2 ∧ True)))) ∧ (¬ (a4 = ((Int32.ofInt 1) - a5)) → True))) ∧ (¬ (a1 = (Int32.ofInt 8)) → ((a4 ≤ (Int32.ofInt 3) → ((a1 = (Int32.ofInt 24) → (HX99_toInteger a0 a4 a6 M ∧ True)) ∧ (¬ (a1 = (Int32.ofInt 24)) → (HX99_fromInteger a0 a7 a4 a5 a6 M ∧ let r12 : Int64 × FM := GX99_fromInteger a0 a7 a4 a5 a6 M; (HX99_write a0 a2 r12.1 a5 r12.2 ∧ True))))) ∧ (¬ (a4 ≤ (Int32.ofInt 3)) → True))))))))))) ∧ (¬ ((Int32.ofInt 2) ≤ a1) → (HX99_added a0 a1 a5 a6 M ∧ let r14 : Int64 × FM := GX99_added a0 a1 a5 a6 M; (HX99_write a0 a2 r14.1 a5 r14.2 ∧ True))))
theorem gX99_arithmetic_0 (a0 : Nat) (a1 : Int32) (a2 : Int32) (a3 : Int32) (a4 : Int32) (a5 : Int32) (a6 : Int32) (a7 : Int64) (M : FM) (T : Ty M) (n_a0 : fm_is M 96 96 a0 = true) (h : HX99_arithmetic_0 a0 a1 a2 a3 a4 a5 a6 a7 M) : gd (FX99_arithmetic_0 fN a0 a1 a2 a3 a4 a5 a6 a7 M) (GX99_arithmetic_0 a0 a1 a2 a3 a4 a5 a6 a7 M) (OkR M) := by
  delta FX99_arithmetic_0 BX99_arithmetic_0
  refine gd_fi (fun c0_0 => ?_) (fun c0_0 => ?_)
  · refine gd_fi (fun c1_0 => ?_) (fun c1_0 => ?_)
    · refine gd_c n_a0 ?_
      refine gd_b (gX99_multiplied _ _ _ _ ⟨T.1, T.2⟩ n_a0 ((h.1 c0_0).1 c1_0).1) (fun K2 => ?_)
      have f3 := (ext_is K2.2 (Nat.zero_lt_succ _) n_a0)
      refine gd_c f3 ?_
      have f5 := (ext_is K2.2 (Nat.zero_lt_succ _) n_a0)
      refine gd_b (gX99_write _ _ _ _ _ ⟨K2.1.1, K2.1.2⟩ f5 ((h.1 c0_0).1 c1_0).2.1) (fun K4 => ?_)
      exact ⟨rfl, ⟨K4.1.1, K4.1.2⟩, (ext_tr K2.2 K4.2)⟩
    · refine gd_fi (fun c6_0 => ?_) (fun c6_0 => ?_)
      · refine gd_c n_a0 ?_
        refine gd_b (gX99_divided _ _ _ _ (((h.1 c0_0).2 c1_0).1 c6_0).1) (fun K7 => ?_)
        have f8 := (ext_is K7.2 (Nat.zero_lt_succ _) n_a0)
        refine gd_c f8 ?_
        have f10 := (ext_is K7.2 (Nat.zero_lt_succ _) n_a0)
        refine gd_b (gX99_write _ _ _ _ _ ⟨K7.1.1, K7.1.2⟩ f10 (((h.1 c0_0).2 c1_0).1 c6_0).2.1) (fun K9 => ?_)
        exact ⟨rfl, ⟨K9.1.1, K9.1.2⟩, (ext_tr K7.2 K9.2)⟩
      · refine gd_fi (fun c11_0 => ?_) (fun c11_0 => ?_)
        · refine gd_fi (fun c12_0 => ?_) (fun c12_0 => ?_)
          · refine gd_c n_a0 ?_
            refine gd_b (gX99_root _ _ _ _ (((((h.1 c0_0).2 c1_0).2 c6_0).1 c11_0).1 c12_0).1) (fun K13 => ?_)
            have f14 := (ext_is K13.2 (Nat.zero_lt_succ _) n_a0)
            refine gd_c f14 ?_
            have f16 := (ext_is K13.2 (Nat.zero_lt_succ _) n_a0)
            refine gd_b (gX99_write _ _ _ _ _ ⟨K13.1.1, K13.1.2⟩ f16 (((((h.1 c0_0).2 c1_0).2 c6_0).1 c11_0).1 c12_0).2.1) (fun K15 => ?_)
            exact gd_tR (ext_tr K13.2 K15.2) (gX99_arithmetic_94 _ _ ⟨K15.1.1, K15.1.2⟩  )
          · exact gd_tR (ext_r _) (gX99_arithmetic_94 _ _ ⟨T.1, T.2⟩  )
        · refine gd_fi (fun c17_0 => ?_) (fun c17_0 => ?_)
          · refine gd_fi (fun c18_0 => ?_) (fun c18_0 => ?_)
            · refine gd_c n_a0 ?_
              refine gd_b (gX99_read _ _ _ _ _ ⟨T.1, T.2⟩ n_a0 ((((((h.1 c0_0).2 c1_0).2 c6_0).2 c11_0).1 c17_0).1 c18_0).1) (fun K19 => ?_)
              have f20 := (ext_is K19.2 (Nat.zero_lt_succ _) n_a0)
              refine gd_c f20 ?_
              have f25 := (ext_is K19.2 (Nat.zero_lt_succ _) n_a0)
              refine gd_b (gX99_other _ _ _ _ ⟨K19.1.1, K19.1.2⟩ f25 ((((((h.1 c0_0).2 c1_0).2 c6_0).2 c11_0).1 c17_0).1 c18_0).2.1) (fun K21 => ?_)
              have f22 := (ext_is K21.2 (Nat.zero_lt_succ _) (ext_is K19.2 (Nat.zero_lt_succ _) n_a0))
              refine gd_c f22 ?_
              have f24 := (ext_is K21.2 (Nat.zero_lt_succ _) (ext_is K19.2 (Nat.zero_lt_succ _) n_a0))
              refine gd_b (gX99_write _ _ _ _ _ ⟨K21.1.1, K21.1.2⟩ f24 ((((((h.1 c0_0).2 c1_0).2 c6_0).2 c11_0).1 c17_0).1 c18_0).2.2.1) (fun K23 => ?_)
              exact ⟨rfl, ⟨K23.1.1, K23.1.2⟩, (ext_tr K19.2 (ext_tr K21.2 K23.2))⟩
            · exact ⟨rfl, ⟨T.1, T.2⟩, (ext_r _)⟩
          · refine gd_fi (fun c26_0 => ?_) (fun c26_0 => ?_)
            · refine gd_fi (fun c27_0 => ?_) (fun c27_0 => ?_)
              · refine gd_c n_a0 ?_
                refine gd_b (gX99_toInteger _ _ _ _ ⟨T.1, T.2⟩ n_a0 (((((((h.1 c0_0).2 c1_0).2 c6_0).2 c11_0).2 c17_0).1 c26_0).1 c27_0).1) (fun K28 => ?_)
                have f29 := (ext_is K28.2 (Nat.zero_lt_succ _) n_a0)
                refine gd_c f29 ?_
                have f31 := (ext_is K28.2 (Nat.zero_lt_succ _) n_a0)
                refine gd_b (gX99_tell _ _ _ ⟨K28.1.1, K28.1.2⟩ f31 ) (fun K30 => ?_)
                exact gd_tR (ext_tr K28.2 K30.2) (gX99_arithmetic_186 _ _ ⟨K30.1.1, K30.1.2⟩  )
              · refine gd_c n_a0 ?_
                refine gd_b (gX99_fromInteger _ _ _ _ _ _ ⟨T.1, T.2⟩ n_a0 (((((((h.1 c0_0).2 c1_0).2 c6_0).2 c11_0).2 c17_0).1 c26_0).2 c27_0).1) (fun K32 => ?_)
                have f33 := (ext_is K32.2 (Nat.zero_lt_succ _) n_a0)
                refine gd_c f33 ?_
                have f35 := (ext_is K32.2 (Nat.zero_lt_succ _) n_a0)
                refine gd_b (gX99_write _ _ _ _ _ ⟨K32.1.1, K32.1.2⟩ f35 (((((((h.1 c0_0).2 c1_0).2 c6_0).2 c11_0).2 c17_0).1 c26_0).2 c27_0).2.1) (fun K34 => ?_)
                exact gd_tR (ext_tr K32.2 K34.2) (gX99_arithmetic_186 _ _ ⟨K34.1.1, K34.1.2⟩  )
            · exact ⟨rfl, ⟨T.1, T.2⟩, (ext_r _)⟩
  · refine gd_c n_a0 ?_
    refine gd_b (gX99_added _ _ _ _ _ ⟨T.1, T.2⟩ n_a0 (h.2 c0_0).1) (fun K36 => ?_)
    have f37 := (ext_is K36.2 (Nat.zero_lt_succ _) n_a0)
    refine gd_c f37 ?_
    have f39 := (ext_is K36.2 (Nat.zero_lt_succ _) n_a0)
    refine gd_b (gX99_write _ _ _ _ _ ⟨K36.1.1, K36.1.2⟩ f39 (h.2 c0_0).2.1) (fun K38 => ?_)
    exact ⟨rfl, ⟨K38.1.1, K38.1.2⟩, (ext_tr K36.2 K38.2)⟩
noncomputable def GX99_arithmetic (a0 : Nat) (a1 : Int32) (a2 : Int32) (a3 : Int32) (a4 : Int32) (a5 : Int32) (a6 : Int32) (a7 : Int64) (M : FM) : Int32 × FM := GX99_arithmetic_0 a0 a1 a2 a3 a4 a5 a6 a7 M
def HX99_arithmetic (a0 : Nat) (a1 : Int32) (a2 : Int32) (a3 : Int32) (a4 : Int32) (a5 : Int32) (a6 : Int32) (a7 : Int64) (M : FM) : Prop := HX99_arithmetic_0 a0 a1 a2 a3 a4 a5 a6 a7 M
theorem gX99_arithmetic (a0 : Nat) (a1 : Int32) (a2 : Int32) (a3 : Int32) (a4 : Int32) (a5 : Int32) (a6 : Int32) (a7 : Int64) (M : FM) (T : Ty M) (n_a0 : fm_is M 96 96 a0 = true) (h : HX99_arithmetic a0 a1 a2 a3 a4 a5 a6 a7 M) : gd (FX99_arithmetic fN a0 a1 a2 a3 a4 a5 a6 a7 M) (GX99_arithmetic a0 a1 a2 a3 a4 a5 a6 a7 M) (OkR M) := gX99_arithmetic_0 a0 a1 a2 a3 a4 a5 a6 a7 M T n_a0 h
