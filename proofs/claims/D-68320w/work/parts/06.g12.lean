/-! functions without guards, printed by gen/gg.py -/
set_option maxRecDepth 100000
def kX95_work (k34 : Nat → Int32 → Int64 → Int32 → FM → Option (FM)) : (Nat × Int32 × Int64 × Int32 × FM) ⊕ (FM) → Option (FM)
  | .inl (v0, v1, v2, v3, M') => k34 v0 v1 v2 v3 M'
  | .inr (r) => some r
def pX95_work (M : FM) : (Nat × Int32 × Int64 × Int32 × FM) ⊕ (FM) → Prop
  | .inl (_, _, _, _, M') => OkV M M'
  | .inr (r) => OkV M r
theorem pX95_work_t {M M1 : FM} (e : Ext M M1) : ∀ y, pX95_work M1 y → pX95_work M y
  | .inl (_, _, _, _, _), h => ⟨h.1, ext_tr e h.2⟩
  | .inr (r), h => ⟨h.1, ext_tr e h.2⟩
noncomputable def GX95_work_183 (s0 : Nat) (s1 : Int32) (M : FM) : (Nat × Int32 × Int64 × Int32 × FM) ⊕ (FM) :=
  let M1 : FM := fm_sI M 332 s0 0 s1
  (.inr M1)
theorem gX95_work_183 (k34 : Nat → Int32 → Int64 → Int32 → FM → Option (FM)) (s0 : Nat) (s1 : Int32) (M : FM) (T : Ty M) (n_s0 : fm_is M 93 93 s0 = true) : gs (FX95_work_183 fN k34 s0 s1 M) (GX95_work_183 s0 s1 M) (kX95_work k34) (pX95_work M) := by
  delta FX95_work_183 BX95_work_183
  refine gs_c n_s0 ?_
  exact And.intro rfl (And.intro (And.intro T.1 (tyb_sI (f := 332) rfl T.2)) ((ext_dI (ext_r _))))
noncomputable def GX95_work_179 (a0 : Nat) (s0 : Nat) (M : FM) : (Nat × Int32 × Int64 × Int32 × FM) ⊕ (FM) :=
  GX95_work_183 s0 (M.1 332 a0 0) M
theorem gX95_work_179 (k34 : Nat → Int32 → Int64 → Int32 → FM → Option (FM)) (a0 : Nat) (s0 : Nat) (M : FM) (T : Ty M) (n_a0 : fm_is M 93 93 a0 = true) (n_s0 : fm_is M 93 93 s0 = true) : gs (FX95_work_179 fN k34 a0 s0 M) (GX95_work_179 a0 s0 M) (kX95_work k34) (pX95_work M) := by
  delta FX95_work_179 BX95_work_179
  refine gs_c n_a0 ?_
  exact gs_t (pX95_work_t (ext_r _)) (gX95_work_183 k34 _ _ _ ⟨T.1, T.2⟩ n_s0 )
noncomputable def GX95_work_152 (a0 : Nat) (a1 : Int32) (a2 : Int64) (a4 : Int32) (M : FM) : (Nat × Int32 × Int64 × Int32 × FM) ⊕ (FM) :=
  (.inl (a0, a1, a2, a4, M))
theorem gX95_work_152 (k34 : Nat → Int32 → Int64 → Int32 → FM → Option (FM)) (a0 : Nat) (a1 : Int32) (a2 : Int64) (a4 : Int32) (M : FM) (T : Ty M) : gs (FX95_work_152 fN k34 a0 a1 a2 a4 M) (GX95_work_152 a0 a1 a2 a4 M) (kX95_work k34) (pX95_work M) := by
  delta FX95_work_152 BX95_work_152
  exact And.intro rfl (And.intro (And.intro T.1 T.2) ((ext_r _)))
noncomputable def GX95_work_139 (a0 : Nat) (a1 : Int32) (a2 : Int64) (M : FM) : (Nat × Int32 × Int64 × Int32 × FM) ⊕ (FM) :=
  let M1 : FM := GX95_breakDown a0 M
  GX95_work_152 a0 a1 a2 (Int32.ofInt 0) M1
theorem gX95_work_139 (k34 : Nat → Int32 → Int64 → Int32 → FM → Option (FM)) (a0 : Nat) (a1 : Int32) (a2 : Int64) (M : FM) (T : Ty M) (n_a0 : fm_is M 93 93 a0 = true) : gs (FX95_work_139 fN k34 a0 a1 a2 M) (GX95_work_139 a0 a1 a2 M) (kX95_work k34) (pX95_work M) := by
  delta FX95_work_139 BX95_work_139
  refine gs_c n_a0 ?_
  refine gs_b (gX95_breakDown _ _ ⟨T.1, T.2⟩ n_a0 ) (fun K0 => ?_)
  exact gs_t (pX95_work_t K0.2) (gX95_work_152 k34 _ _ _ _ _ ⟨K0.1.1, K0.1.2⟩  )
noncomputable def GX95_work_117 (a0 : Nat) (a1 : Int32) (a2 : Int64) (M : FM) : (Nat × Int32 × Int64 × Int32 × FM) ⊕ (FM) :=
  GX95_work_152 a0 a1 a2 (Int32.ofInt 0) M
theorem gX95_work_117 (k34 : Nat → Int32 → Int64 → Int32 → FM → Option (FM)) (a0 : Nat) (a1 : Int32) (a2 : Int64) (M : FM) (T : Ty M) : gs (FX95_work_117 fN k34 a0 a1 a2 M) (GX95_work_117 a0 a1 a2 M) (kX95_work k34) (pX95_work M) := by
  delta FX95_work_117 BX95_work_117
  exact gs_t (pX95_work_t (ext_r _)) (gX95_work_152 k34 _ _ _ _ _ ⟨T.1, T.2⟩  )
noncomputable def GX95_work_26 (M : FM) : (Nat × Int32 × Int64 × Int32 × FM) ⊕ (FM) :=
  (.inr M)
theorem gX95_work_26 (k34 : Nat → Int32 → Int64 → Int32 → FM → Option (FM)) (M : FM) (T : Ty M) : gs (FX95_work_26 fN k34 M) (GX95_work_26 M) (kX95_work k34) (pX95_work M) := by
  delta FX95_work_26 BX95_work_26
  exact And.intro rfl (And.intro (And.intro T.1 T.2) ((ext_r _)))
noncomputable def GX95_work_0 (a0 : Nat) (M : FM) : (Nat × Int32 × Int64 × Int32 × FM) ⊕ (FM) :=
  fi (((M.1 333 a0 0) &&& (Int32.ofInt 4)) = 0) (
    GX95_work_26 M) (
    fi (((M.1 333 a0 0) &&& (Int32.ofInt 64)) = 0) (
      fi ((M.1 331 a0 0) = 0) (
        GX95_work_26 M) (
        (.inl (a0, (Int32.ofInt 0), (Int64.ofInt 1), (Int32.ofInt 1), M)))) (
      GX95_work_26 M))
theorem gX95_work_0 (k34 : Nat → Int32 → Int64 → Int32 → FM → Option (FM)) (a0 : Nat) (M : FM) (T : Ty M) (n_a0 : fm_is M 93 93 a0 = true) : gs (FX95_work_0 fN k34 a0 M) (GX95_work_0 a0 M) (kX95_work k34) (pX95_work M) := by
  delta FX95_work_0 BX95_work_0
  refine gs_c n_a0 ?_
  refine gs_fi (fun c0_0 => ?_) (fun c0_0 => ?_)
  · exact gs_t (pX95_work_t (ext_r _)) (gX95_work_26 k34  _ ⟨T.1, T.2⟩  )
  · refine gs_c n_a0 ?_
    refine gs_fi (fun c1_0 => ?_) (fun c1_0 => ?_)
    · refine gs_c n_a0 ?_
      refine gs_fi (fun c2_0 => ?_) (fun c2_0 => ?_)
      · exact gs_t (pX95_work_t (ext_r _)) (gX95_work_26 k34  _ ⟨T.1, T.2⟩  )
      · exact And.intro rfl (And.intro (And.intro T.1 T.2) ((ext_r _)))
    · exact gs_t (pX95_work_t (ext_r _)) (gX95_work_26 k34  _ ⟨T.1, T.2⟩  )
noncomputable def GX95_work_34 (a0 : Nat) (a1 : Int32) (a2 : Int64) (a4 : Int32) (M : FM) : (Nat × Int32 × Int64 × Int32 × FM) ⊕ (FM) :=
  fi (a4 = 0) (
    fi (a1 ≤ 0) (
      GX95_work_179 a0 a0 M) (
      fi ((lg_cmp (a2 - a2 / (Int64.ofInt 2) * (Int64.ofInt 2)) (Int64.ofInt 0)) = 0) (
        GX95_work_183 a0 ((M.1 332 a0 0) ||| (Int32.ofInt 1)) M) (
        GX95_work_179 a0 a0 M))) (
    let x1 : Nat := (M.2.2 334 a0 0)
    let r2 : Int32 × FM := GX95_isThere (M.2.1 3 x1 (Int32.ofInt 1).toNatClampNeg) (Int64.ofInt 4) M
    fi (r2.1 = 0) (
      let M3 : FM := GX95_breakDown a0 r2.2
      (.inl (a0, a1, a2, (Int32.ofInt 0), M3))) (
      let x4 : Nat := (r2.2.2.2 334 a0 0)
      let r5 : Int64 × FM := GX95_number a0 (r2.2.2.1 3 x4 (Int32.ofInt 1).toNatClampNeg) (Int32.ofInt 2) r2.2
      let x6 : Nat := (r5.2.2.2 334 a0 0)
      let r7 : Int64 × FM := GX95_number a0 ((r5.2.2.1 3 x6 (Int32.ofInt 1).toNatClampNeg) + (Int64.ofInt 2)) (Int32.ofInt 2) r5.2
      let x8 : Int32 := r7.1.toInt32
      let x9 : Int32 := ((x8 - (r7.2.1 335 a0 0)) &&& (Int32.ofInt 65535))
      fi (x9 = 0) (
        GX95_work_117 a0 a1 r5.1 r7.2) (
        fi (a1 = (Int32.ofInt 64)) (
          GX95_work_117 a0 a1 r5.1 r7.2) (
          fi ((r7.2.1 330 a0 0) < x9) (
            GX95_work_139 a0 a1 r5.1 r7.2) (
            let r10 : Int32 × FM := GX95_oneMore a0 r7.2
            fi (r10.1 = 0) (
              GX95_work_139 a0 a1 r5.1 r10.2) (
              let x11 : Int32 := a1 + (Int32.ofInt 1)
              GX95_work_152 a0 x11 r5.1 a4 r10.2))))))
def HX95_work_34 (a0 : Nat) (a1 : Int32) (a2 : Int64) (a4 : Int32) (M : FM) : Prop := ((a4 = 0 → True) ∧ (¬ (a4 = 0) → let x1 : Nat := (M.2.2 334 a0 0); let r2 : Int32 × FM := GX95_isThere (M.2.1 3 x1 (Int32.ofInt 1).toNatClampNeg) (Int64.ofInt 4) M; ((r2.1 = 0 → True) ∧ (¬ (r2.1 = 0) → let x4 : Nat := (r2.2.2.2 334 a0 0); (HX95_number a0 (r2.2.2.1 3 x4 (Int32.ofInt 1).toNatClampNeg) (Int32.ofInt 2) r2.2 ∧ let r5 : Int64 × FM := GX95_number a0 (r2.2.2.1 3 x4 (Int32.ofInt 1).toNatClampNeg) (Int32.ofInt 2) r2.2; let x6 : Nat := (r5.2.2.2 334 a0 0); (HX95_number a0 ((r5.2.2.1 3 x6 (Int32.ofInt 1).toNatClampNeg) + (Int64.ofInt 2)) (Int32.ofInt 2) r5.2 ∧ let r7 : Int64 × FM := GX95_number a0 ((r5.2.2.1 3 x6 (Int32.ofInt 1).toNatClampNeg) + (Int64.ofInt 2)) (Int32.ofInt 2) r5.2; let x8 : Int32 := r7.1.toInt32; let x9 : Int32 := ((x8 - (r7.2.1 335 a0 0)) &&& (Int32.ofInt 65535)); ((x9 = 0 → True) ∧ (¬ (x9 = 0) → ((a1 = (Int32.ofInt 64) → True) ∧ (¬ (a1 = (Int32.ofInt 64)) → (((r7.2.1 330 a0 0) < x9 → True) ∧ (¬ ((r7.2.1 330 a0 0) < x9) → (HX95_oneMore a0 r7.2 ∧ True)))))))))))))
theorem gX95_work_34 (k34 : Nat → Int32 → Int64 → Int32 → FM → Option (FM)) (a0 : Nat) (a1 : Int32) (a2 : Int64) (a4 : Int32) (M : FM) (T : Ty M) (n_a0 : fm_is M 93 93 a0 = true) (h : HX95_work_34 a0 a1 a2 a4 M) : gs (FX95_work_34 fN k34 a0 a1 a2 a4 M) (GX95_work_34 a0 a1 a2 a4 M) (kX95_work k34) (pX95_work M) := by
  delta FX95_work_34 BX95_work_34
  refine gs_fi (fun c0_0 => ?_) (fun c0_0 => ?_)
  · refine gs_fi (fun c1_0 => ?_) (fun c1_0 => ?_)
    · exact gs_t (pX95_work_t (ext_r _)) (gX95_work_179 k34 _ _ _ ⟨T.1, T.2⟩ n_a0 n_a0 )
    · refine gs_n (by decide) ?_
      refine gs_fi (fun c2_0 => ?_) (fun c2_0 => ?_)
      · refine gs_c n_a0 ?_
        exact gs_t (pX95_work_t (ext_r _)) (gX95_work_183 k34 _ _ _ ⟨T.1, T.2⟩ n_a0 )
      · exact gs_t (pX95_work_t (ext_r _)) (gX95_work_179 k34 _ _ _ ⟨T.1, T.2⟩ n_a0 n_a0 )
  · refine gs_c n_a0 ?_
    have f29 := (tN_334 T.1 n_a0)
    have f30 := (fm_inl (i := (Int32.ofInt 1)) (tL_334 T.1 n_a0) (by decide))
    refine gs_c ⟨f29, f30⟩ ?_
    refine gs_b (gX95_isThere _ _ _ ⟨T.1, T.2⟩  ) (fun K3 => ?_)
    refine gs_fi (fun c4_0 => ?_) (fun c4_0 => ?_)
    · have f5 := (ext_is K3.2.1 (Nat.zero_lt_succ _) n_a0)
      refine gs_c f5 ?_
      have f7 := (ext_is K3.2.1 (Nat.zero_lt_succ _) n_a0)
      refine gs_b (gX95_breakDown _ _ ⟨K3.1.1, K3.1.2⟩ f7 ) (fun K6 => ?_)
      exact And.intro rfl (And.intro (And.intro K6.1.1 K6.1.2) ((ext_tr K3.2.1 K6.2)))
    · have f8 := (ext_is K3.2.1 (Nat.zero_lt_succ _) n_a0)
      refine gs_c f8 ?_
      have f27 := (tN_334 K3.1.1 (ext_is K3.2.1 (Nat.zero_lt_succ _) n_a0))
      have f28 := (fm_inl (i := (Int32.ofInt 1)) (tL_334 K3.1.1 (ext_is K3.2.1 (Nat.zero_lt_succ _) n_a0)) (by decide))
      refine gs_c ⟨f27, f28⟩ ?_
      have f9 := (ext_is K3.2.1 (Nat.zero_lt_succ _) n_a0)
      refine gs_c f9 ?_
      refine gs_b (gX95_number _ _ _ _ ((h.2 c0_0).2 c4_0).1) (fun K10 => ?_)
      have f11 := (ext_is K10.2 (Nat.zero_lt_succ _) (ext_is K3.2.1 (Nat.zero_lt_succ _) n_a0))
      refine gs_c f11 ?_
      have f25 := (tN_334 K10.1.1 (ext_is K10.2 (Nat.zero_lt_succ _) (ext_is K3.2.1 (Nat.zero_lt_succ _) n_a0)))
      have f26 := (fm_inl (i := (Int32.ofInt 1)) (tL_334 K10.1.1 (ext_is K10.2 (Nat.zero_lt_succ _) (ext_is K3.2.1 (Nat.zero_lt_succ _) n_a0))) (by decide))
      refine gs_c ⟨f25, f26⟩ ?_
      have f12 := (ext_is K10.2 (Nat.zero_lt_succ _) (ext_is K3.2.1 (Nat.zero_lt_succ _) n_a0))
      refine gs_c f12 ?_
      refine gs_b (gX95_number _ _ _ _ ((h.2 c0_0).2 c4_0).2.1) (fun K13 => ?_)
      have f14 := (ext_is K13.2 (Nat.zero_lt_succ _) (ext_is K10.2 (Nat.zero_lt_succ _) (ext_is K3.2.1 (Nat.zero_lt_succ _) n_a0)))
      refine gs_c f14 ?_
      refine gs_fi (fun c15_0 => ?_) (fun c15_0 => ?_)
      · exact gs_t (pX95_work_t (ext_tr K3.2.1 (ext_tr K10.2 K13.2))) (gX95_work_117 k34 _ _ _ _ ⟨K13.1.1, K13.1.2⟩  )
      · refine gs_fi (fun c16_0 => ?_) (fun c16_0 => ?_)
        · exact gs_t (pX95_work_t (ext_tr K3.2.1 (ext_tr K10.2 K13.2))) (gX95_work_117 k34 _ _ _ _ ⟨K13.1.1, K13.1.2⟩  )
        · have f17 := (ext_is K13.2 (Nat.zero_lt_succ _) (ext_is K10.2 (Nat.zero_lt_succ _) (ext_is K3.2.1 (Nat.zero_lt_succ _) n_a0)))
          refine gs_c f17 ?_
          refine gs_fi (fun c18_0 => ?_) (fun c18_0 => ?_)
          · have f19 := (ext_is K13.2 (Nat.zero_lt_succ _) (ext_is K10.2 (Nat.zero_lt_succ _) (ext_is K3.2.1 (Nat.zero_lt_succ _) n_a0)))
            exact gs_t (pX95_work_t (ext_tr K3.2.1 (ext_tr K10.2 K13.2))) (gX95_work_139 k34 _ _ _ _ ⟨K13.1.1, K13.1.2⟩ f19 )
          · have f20 := (ext_is K13.2 (Nat.zero_lt_succ _) (ext_is K10.2 (Nat.zero_lt_succ _) (ext_is K3.2.1 (Nat.zero_lt_succ _) n_a0)))
            refine gs_c f20 ?_
            have f24 := (ext_is K13.2 (Nat.zero_lt_succ _) (ext_is K10.2 (Nat.zero_lt_succ _) (ext_is K3.2.1 (Nat.zero_lt_succ _) n_a0)))
            refine gs_b (gX95_oneMore _ _ ⟨K13.1.1, K13.1.2⟩ f24 (((((h.2 c0_0).2 c4_0).2.2.2 c15_0).2 c16_0).2 c18_0).1) (fun K21 => ?_)
            refine gs_fi (fun c22_0 => ?_) (fun c22_0 => ?_)
            · have f23 := (ext_is K21.2.1 (Nat.zero_lt_succ _) (ext_is K13.2 (Nat.zero_lt_succ _) (ext_is K10.2 (Nat.zero_lt_succ _) (ext_is K3.2.1 (Nat.zero_lt_succ _) n_a0))))
              exact gs_t (pX95_work_t (ext_tr K3.2.1 (ext_tr K10.2 (ext_tr K13.2 K21.2.1)))) (gX95_work_139 k34 _ _ _ _ ⟨K21.1.1, K21.1.2⟩ f23 )
            · exact gs_t (pX95_work_t (ext_tr K3.2.1 (ext_tr K10.2 (ext_tr K13.2 K21.2.1)))) (gX95_work_152 k34 _ _ _ _ _ ⟨K21.1.1, K21.1.2⟩  )
noncomputable def GX95_work (a0 : Nat) (M : FM) : FM := (FX95_work fN a0 M).getD M
def HX95_work (a0 : Nat) (M : FM) : Prop := ∃ r, FX95_work fN a0 M = some r ∧ OkV M r
theorem gX95_work (a0 : Nat) (M : FM) (h : HX95_work a0 M) : gd (FX95_work fN a0 M) (GX95_work a0 M) (OkV M) := gd_op h
def kX95_begin (k33 : Nat → Int32 → FM → Option (FM)) : (Nat × Int32 × FM) ⊕ (FM) → Option (FM)
  | .inl (v0, v1, M') => k33 v0 v1 M'
  | .inr (r) => some r
def pX95_begin (M : FM) : (Nat × Int32 × FM) ⊕ (FM) → Prop
  | .inl (_, _, M') => OkV M M'
  | .inr (r) => OkV M r
theorem pX95_begin_t {M M1 : FM} (e : Ext M M1) : ∀ y, pX95_begin M1 y → pX95_begin M y
  | .inl (_, _, _), h => ⟨h.1, ext_tr e h.2⟩
  | .inr (r), h => ⟨h.1, ext_tr e h.2⟩
noncomputable def GX95_begin_0 (a0 : Nat) (M : FM) : (Nat × Int32 × FM) ⊕ (FM) :=
  let M1 : FM := fm_sI M 328 a0 0 (Int32.ofInt 0)
  let M2 : FM := fm_sI M1 329 a0 0 (Int32.ofInt 0)
  let M3 : FM := fm_sI M2 330 a0 0 (Int32.ofInt 16)
  let M4 : FM := fm_sI M3 331 a0 0 (Int32.ofInt 0)
  let M5 : FM := fm_sI M4 332 a0 0 (Int32.ofInt 0)
  let M6 : FM := fm_sI M5 333 a0 0 (Int32.ofInt 0)
  (.inl (a0, (Int32.ofInt 0), M6))
theorem gX95_begin_0 (k33 : Nat → Int32 → FM → Option (FM)) (a0 : Nat) (M : FM) (T : Ty M) (n_a0 : fm_is M 93 93 a0 = true) : gs (FX95_begin_0 fN k33 a0 M) (GX95_begin_0 a0 M) (kX95_begin k33) (pX95_begin M) := by
  delta FX95_begin_0 BX95_begin_0
  refine gs_c n_a0 ?_
  refine gs_c n_a0 ?_
  refine gs_c n_a0 ?_
  refine gs_c n_a0 ?_
  refine gs_c fz_0 ?_
  refine gs_c n_a0 ?_
  refine gs_c n_a0 ?_
  exact And.intro rfl (And.intro (And.intro T.1 (tyb_sI (f := 333) rfl (tyb_sI (f := 332) rfl (tyb_sIb (f := 331) rfl (tyb_sI (f := 330) rfl (tyb_sI (f := 329) rfl (tyb_sI (f := 328) rfl T.2))) fz_0)))) ((ext_dI (ext_dI (ext_dI (ext_dI (ext_dI (ext_dI (ext_r _)))))))))
noncomputable def GX95_begin_33 (a0 : Nat) (a1 : Int32) (M : FM) : (Nat × Int32 × FM) ⊕ (FM) :=
  fi ((Int32.ofInt 3) ≤ a1) (
    let M1 : FM := fm_sI M 335 a0 0 (Int32.ofInt 0)
    let M2 : FM := fm_sI M1 336 a0 0 (Int32.ofInt 0)
    (.inr M2)) (
    let x3 : Nat := (M.2.2 334 a0 0)
    let M4 : FM := fm_sL M 3 x3 a1.toNatClampNeg (Int64.ofInt 0)
    let x5 : Int32 := a1 + (Int32.ofInt 1)
    (.inl (a0, x5, M4)))
def HX95_begin_33 (a0 : Nat) (a1 : Int32) (M : FM) : Prop := (((Int32.ofInt 3) ≤ a1 → True) ∧ (¬ ((Int32.ofInt 3) ≤ a1) → let x3 : Nat := (M.2.2 334 a0 0); (fm_in M x3 a1 = true ∧ True)))
theorem gX95_begin_33 (k33 : Nat → Int32 → FM → Option (FM)) (a0 : Nat) (a1 : Int32) (M : FM) (T : Ty M) (n_a0 : fm_is M 93 93 a0 = true) (h : HX95_begin_33 a0 a1 M) : gs (FX95_begin_33 fN k33 a0 a1 M) (GX95_begin_33 a0 a1 M) (kX95_begin k33) (pX95_begin M) := by
  delta FX95_begin_33 BX95_begin_33
  refine gs_fi (fun c0_0 => ?_) (fun c0_0 => ?_)
  · refine gs_c n_a0 ?_
    refine gs_c n_a0 ?_
    exact And.intro rfl (And.intro (And.intro T.1 (tyb_sI (f := 336) rfl (tyb_sI (f := 335) rfl T.2))) ((ext_dI (ext_dI (ext_r _)))))
  · refine gs_c n_a0 ?_
    have f1 := (tN_334 T.1 n_a0)
    refine gs_c ⟨f1, (h.2 c0_0).1⟩ ?_
    exact And.intro rfl (And.intro (And.intro T.1 T.2) ((ext_dL (ext_r _))))
noncomputable def GX95_begin (a0 : Nat) (M : FM) : FM := (FX95_begin fN a0 M).getD M
def HX95_begin (a0 : Nat) (M : FM) : Prop := ∃ r, FX95_begin fN a0 M = some r ∧ OkV M r
theorem gX95_begin (a0 : Nat) (M : FM) (h : HX95_begin a0 M) : gd (FX95_begin fN a0 M) (GX95_begin a0 M) (OkV M) := gd_op h
noncomputable def GX95_write_206 (M : FM) : FM :=
  M
theorem gX95_write_206 (M : FM) (T : Ty M) : gd (FX95_write_206 fN M) (GX95_write_206 M) (OkV M) := by
  delta FX95_write_206 BX95_write_206
  exact ⟨rfl, ⟨T.1, T.2⟩, (ext_r _)⟩
noncomputable def GX95_write_140 (a0 : Nat) (a1 : Int32) (a2 : Int32) (M : FM) : FM :=
  let M1 : FM := GX95_setQueue a0 a1 a2 M
  GX95_write_206 M1
def HX95_write_140 (a0 : Nat) (a1 : Int32) (a2 : Int32) (M : FM) : Prop := (HX95_setQueue a0 a1 a2 M ∧ True)
theorem gX95_write_140 (a0 : Nat) (a1 : Int32) (a2 : Int32) (M : FM) (T : Ty M) (n_a0 : fm_is M 93 93 a0 = true) (h : HX95_write_140 a0 a1 a2 M) : gd (FX95_write_140 fN a0 a1 a2 M) (GX95_write_140 a0 a1 a2 M) (OkV M) := by
  delta FX95_write_140 BX95_write_140
  refine gd_c n_a0 ?_
  refine gd_b (gX95_setQueue _ _ _ _ ⟨T.1, T.2⟩ n_a0 h.1) (fun K0 => ?_)
  exact gd_tV K0.2 (gX95_write_206  _ ⟨K0.1.1, K0.1.2⟩  )
noncomputable def GX95_write_0 (a0 : Nat) (a1 : Int32) (a2 : Int32) (M : FM) : FM :=
  let r1 : Int32 × FM := GX95_noOffset a0 a1 M
  fi (r1.1 = 0) (
    fi (a1 = (Int32.ofInt 20)) (
      let M2 : FM := fm_sI r1.2 329 a0 0 a2
      GX95_write_206 M2) (
      fi (a1 = (Int32.ofInt 48)) (
        let M3 : FM := fm_sI r1.2 328 a0 0 a2
        GX95_write_206 M3) (
        fi (a1 = (Int32.ofInt 56)) (
          GX95_write_140 a0 a1 a2 r1.2) (
          fi (a1 = (Int32.ofInt 68)) (
            GX95_write_140 a0 a1 a2 r1.2) (
            fi (a1 = (Int32.ofInt 80)) (
              fi (a2 = 0) (
                let M4 : FM := GX95_work a0 r1.2
                GX95_write_206 M4) (
                GX95_write_206 r1.2)) (
              fi (a1 = (Int32.ofInt 100)) (
                let M5 : FM := fm_sI r1.2 332 a0 0 ((r1.2.1 332 a0 0) &&& (a2 ^^^ (Int32.ofInt (-1))))
                GX95_write_206 M5) (
                fi (a1 = (Int32.ofInt 112)) (
                  fi (a2 = 0) (
                    let M6 : FM := GX95_begin a0 r1.2
                    GX95_write_206 M6) (
                    let M7 : FM := fm_sI r1.2 333 a0 0 ((a2 &&& (Int32.ofInt 255)) ||| ((r1.2.1 333 a0 0) &&& (Int32.ofInt 64)))
                    GX95_write_206 M7)) (
                  fi (a1 = (Int32.ofInt 128)) (
                    GX95_write_140 a0 a1 a2 r1.2) (
                    fi (a1 = (Int32.ofInt 132)) (
                      GX95_write_140 a0 a1 a2 r1.2) (
                      fi (a1 = (Int32.ofInt 144)) (
                        GX95_write_140 a0 a1 a2 r1.2) (
                        fi (a1 = (Int32.ofInt 148)) (
                          GX95_write_140 a0 a1 a2 r1.2) (
                          fi (a1 = (Int32.ofInt 160)) (
                            GX95_write_140 a0 a1 a2 r1.2) (
                            fi (a1 = (Int32.ofInt 164)) (
                              GX95_write_140 a0 a1 a2 r1.2) (
                              GX95_write_206 r1.2)))))))))))))) (
    r1.2)
def HX95_write_0 (a0 : Nat) (a1 : Int32) (a2 : Int32) (M : FM) : Prop := let r1 : Int32 × FM := GX95_noOffset a0 a1 M; ((r1.1 = 0 → ((a1 = (Int32.ofInt 20) → True) ∧ (¬ (a1 = (Int32.ofInt 20)) → ((a1 = (Int32.ofInt 48) → True) ∧ (¬ (a1 = (Int32.ofInt 48)) → ((a1 = (Int32.ofInt 56) → HX95_write_140 a0 a1 a2 r1.2) ∧ (¬ (a1 = (Int32.ofInt 56)) → ((a1 = (Int32.ofInt 68) → HX95_write_140 a0 a1 a2 r1.2) ∧ (¬ (a1 = (Int32.ofInt 68)) → ((a1 = (Int32.ofInt 80) → ((a2 = 0 → (HX95_work a0 r1.2 ∧ True)) ∧ (¬ (a2 = 0) → True))) ∧ (¬ (a1 = (Int32.ofInt 80)) → ((a1 = (Int32.ofInt 100) → True) ∧ (¬ (a1 = (Int32.ofInt 100)) → ((a1 = (Int32.ofInt 112) → ((a2 = 0 → (HX95_begin a0 r1.2 ∧ True)) ∧ (¬ (a2 = 0) → True))) ∧ (¬ (a1 = (Int32.ofInt 112)) → ((a1 = (Int32.ofInt 128) → HX95_write_140 a0 a1 a2 r1.2) ∧ (¬ (a1 = (Int32.ofInt 128)) → ((a1 = (Int32.ofInt 132) → HX95_write_140 a0 a1 a2 r1.2) ∧ (¬ (a1 = (Int32.ofInt 132)) → ((a1 = (Int32.ofInt 144) → HX95_write_140 a0 a1 a2 r1.2) ∧ (¬ (a1 = (Int32.ofInt 144)) → ((a1 = (Int32.ofInt 148) → HX95_write_140 a0 a1 a2 r1.2) ∧ (¬ (a1 = (Int32.ofInt 148)) → ((a1 = (Int32.ofInt 160) → HX95_write_140 a0 a1 a2 r1.2) ∧ (¬ (a1 = (Int32.ofInt 160)) → ((a1 = (Int32.ofInt 164) → HX95_write_140 a0 a1 a2 r1.2) ∧ (¬ (a1 = (Int32.ofInt 164)) → True))))))))))))))))))))))))))) ∧ (¬ (r1.1 = 0) → True))
theorem gX95_write_0 (a0 : Nat) (a1 : Int32) (a2 : Int32) (M : FM) (T : Ty M) (n_a0 : fm_is M 93 93 a0 = true) (h : HX95_write_0 a0 a1 a2 M) : gd (FX95_write_0 fN a0 a1 a2 M) (GX95_write_0 a0 a1 a2 M) (OkV M) := by
  delta FX95_write_0 BX95_write_0
  refine gd_c n_a0 ?_
  refine gd_b (gX95_noOffset _ _ _ ⟨T.1, T.2⟩ n_a0 ) (fun K0 => ?_)
  refine gd_fi (fun c1_0 => ?_) (fun c1_0 => ?_)
  · refine gd_fi (fun c2_0 => ?_) (fun c2_0 => ?_)
    · have f3 := (ext_is K0.2.1 (Nat.zero_lt_succ _) n_a0)
      refine gd_c f3 ?_
      exact gd_tV (ext_tr K0.2.1 (ext_dI (ext_r _))) (gX95_write_206  _ ⟨K0.1.1, (tyb_sI (f := 329) rfl K0.1.2)⟩  )
    · refine gd_fi (fun c4_1 => ?_) (fun c4_1 => ?_)
      · have f5 := (ext_is K0.2.1 (Nat.zero_lt_succ _) n_a0)
        refine gd_c f5 ?_
        exact gd_tV (ext_tr K0.2.1 (ext_dI (ext_r _))) (gX95_write_206  _ ⟨K0.1.1, (tyb_sI (f := 328) rfl K0.1.2)⟩  )
      · refine gd_fi (fun c6_2 => ?_) (fun c6_2 => ?_)
        · have f7 := (ext_is K0.2.1 (Nat.zero_lt_succ _) n_a0)
          exact gd_tV K0.2.1 (gX95_write_140 _ _ _ _ ⟨K0.1.1, K0.1.2⟩ f7 ((((h.1 c1_0).2 c2_0).2 c4_1).1 c6_2))
        · refine gd_fi (fun c8_3 => ?_) (fun c8_3 => ?_)
          · have f9 := (ext_is K0.2.1 (Nat.zero_lt_succ _) n_a0)
            exact gd_tV K0.2.1 (gX95_write_140 _ _ _ _ ⟨K0.1.1, K0.1.2⟩ f9 (((((h.1 c1_0).2 c2_0).2 c4_1).2 c6_2).1 c8_3))
          · refine gd_fi (fun c10_4 => ?_) (fun c10_4 => ?_)
            · refine gd_fi (fun c11_0 => ?_) (fun c11_0 => ?_)
              · have f12 := (ext_is K0.2.1 (Nat.zero_lt_succ _) n_a0)
                refine gd_c f12 ?_
                refine gd_b (gX95_work _ _ (((((((h.1 c1_0).2 c2_0).2 c4_1).2 c6_2).2 c8_3).1 c10_4).1 c11_0).1) (fun K13 => ?_)
                exact gd_tV (ext_tr K0.2.1 K13.2) (gX95_write_206  _ ⟨K13.1.1, K13.1.2⟩  )
              · exact gd_tV K0.2.1 (gX95_write_206  _ ⟨K0.1.1, K0.1.2⟩  )
            · refine gd_fi (fun c14_5 => ?_) (fun c14_5 => ?_)
              · have f15 := (ext_is K0.2.1 (Nat.zero_lt_succ _) n_a0)
                refine gd_c f15 ?_
                have f16 := (ext_is K0.2.1 (Nat.zero_lt_succ _) n_a0)
                refine gd_c f16 ?_
                exact gd_tV (ext_tr K0.2.1 (ext_dI (ext_r _))) (gX95_write_206  _ ⟨K0.1.1, (tyb_sI (f := 332) rfl K0.1.2)⟩  )
              · refine gd_fi (fun c17_6 => ?_) (fun c17_6 => ?_)
                · refine gd_fi (fun c18_0 => ?_) (fun c18_0 => ?_)
                  · have f19 := (ext_is K0.2.1 (Nat.zero_lt_succ _) n_a0)
                    refine gd_c f19 ?_
                    refine gd_b (gX95_begin _ _ (((((((((h.1 c1_0).2 c2_0).2 c4_1).2 c6_2).2 c8_3).2 c10_4).2 c14_5).1 c17_6).1 c18_0).1) (fun K20 => ?_)
                    exact gd_tV (ext_tr K0.2.1 K20.2) (gX95_write_206  _ ⟨K20.1.1, K20.1.2⟩  )
                  · have f21 := (ext_is K0.2.1 (Nat.zero_lt_succ _) n_a0)
                    refine gd_c f21 ?_
                    have f22 := (ext_is K0.2.1 (Nat.zero_lt_succ _) n_a0)
                    refine gd_c f22 ?_
                    exact gd_tV (ext_tr K0.2.1 (ext_dI (ext_r _))) (gX95_write_206  _ ⟨K0.1.1, (tyb_sI (f := 333) rfl K0.1.2)⟩  )
                · refine gd_fi (fun c23_7 => ?_) (fun c23_7 => ?_)
                  · have f24 := (ext_is K0.2.1 (Nat.zero_lt_succ _) n_a0)
                    exact gd_tV K0.2.1 (gX95_write_140 _ _ _ _ ⟨K0.1.1, K0.1.2⟩ f24 (((((((((h.1 c1_0).2 c2_0).2 c4_1).2 c6_2).2 c8_3).2 c10_4).2 c14_5).2 c17_6).1 c23_7))
                  · refine gd_fi (fun c25_8 => ?_) (fun c25_8 => ?_)
                    · have f26 := (ext_is K0.2.1 (Nat.zero_lt_succ _) n_a0)
                      exact gd_tV K0.2.1 (gX95_write_140 _ _ _ _ ⟨K0.1.1, K0.1.2⟩ f26 ((((((((((h.1 c1_0).2 c2_0).2 c4_1).2 c6_2).2 c8_3).2 c10_4).2 c14_5).2 c17_6).2 c23_7).1 c25_8))
                    · refine gd_fi (fun c27_9 => ?_) (fun c27_9 => ?_)
                      · have f28 := (ext_is K0.2.1 (Nat.zero_lt_succ _) n_a0)
                        exact gd_tV K0.2.1 (gX95_write_140 _ _ _ _ ⟨K0.1.1, K0.1.2⟩ f28 (((((((((((h.1 c1_0).2 c2_0).2 c4_1).2 c6_2).2 c8_3).2 c10_4).2 c14_5).2 c17_6).2 c23_7).2 c25_8).1 c27_9))
                      · refine gd_fi (fun c29_10 => ?_) (fun c29_10 => ?_)
                        · have f30 := (ext_is K0.2.1 (Nat.zero_lt_succ _) n_a0)
                          exact gd_tV K0.2.1 (gX95_write_140 _ _ _ _ ⟨K0.1.1, K0.1.2⟩ f30 ((((((((((((h.1 c1_0).2 c2_0).2 c4_1).2 c6_2).2 c8_3).2 c10_4).2 c14_5).2 c17_6).2 c23_7).2 c25_8).2 c27_9).1 c29_10))
                        · refine gd_fi (fun c31_11 => ?_) (fun c31_11 => ?_)
                          · have f32 := (ext_is K0.2.1 (Nat.zero_lt_succ _) n_a0)
                            exact gd_tV K0.2.1 (gX95_write_140 _ _ _ _ ⟨K0.1.1, K0.1.2⟩ f32 (((((((((((((h.1 c1_0).2 c2_0).2 c4_1).2 c6_2).2 c8_3).2 c10_4).2 c14_5).2 c17_6).2 c23_7).2 c25_8).2 c27_9).2 c29_10).1 c31_11))
                          · refine gd_fi (fun c33_12 => ?_) (fun c33_12 => ?_)
                            · have f34 := (ext_is K0.2.1 (Nat.zero_lt_succ _) n_a0)
                              exact gd_tV K0.2.1 (gX95_write_140 _ _ _ _ ⟨K0.1.1, K0.1.2⟩ f34 ((((((((((((((h.1 c1_0).2 c2_0).2 c4_1).2 c6_2).2 c8_3).2 c10_4).2 c14_5).2 c17_6).2 c23_7).2 c25_8).2 c27_9).2 c29_10).2 c31_11).1 c33_12))
                            · exact gd_tV K0.2.1 (gX95_write_206  _ ⟨K0.1.1, K0.1.2⟩  )
  · exact ⟨rfl, ⟨K0.1.1, K0.1.2⟩, K0.2.1⟩
noncomputable def GX95_write (a0 : Nat) (a1 : Int32) (a2 : Int32) (M : FM) : FM := GX95_write_0 a0 a1 a2 M
def HX95_write (a0 : Nat) (a1 : Int32) (a2 : Int32) (M : FM) : Prop := HX95_write_0 a0 a1 a2 M
theorem gX95_write (a0 : Nat) (a1 : Int32) (a2 : Int32) (M : FM) (T : Ty M) (n_a0 : fm_is M 93 93 a0 = true) (h : HX95_write a0 a1 a2 M) : gd (FX95_write fN a0 a1 a2 M) (GX95_write a0 a1 a2 M) (OkV M) := gX95_write_0 a0 a1 a2 M T n_a0 h
noncomputable def GX95_line_17 (s0 : Int32) (M : FM) : Int32 × FM :=
  (s0, M)
theorem gX95_line_17 (s0 : Int32) (M : FM) (T : Ty M) (z_s0 : s0 = 0 ∨ s0 = 1) : gd (FX95_line_17 s0 M) (GX95_line_17 s0 M) (OkZ M) := by
  delta FX95_line_17 BX95_line_17
  exact gd_z z_s0 ⟨T.1, T.2⟩ (ext_r _) rfl
noncomputable def GX95_line_0 (a0 : Nat) (M : FM) : Int32 × FM :=
  let M1 : FM := fm_sI M 324 a0 0 (Int32.ofInt 0)
  fi ((M1.1 332 a0 0) = 0) (
    GX95_line_17 (Int32.ofInt 0) M1) (
    GX95_line_17 (Int32.ofInt 1) M1)
theorem gX95_line_0 (a0 : Nat) (M : FM) (T : Ty M) (n_a0 : fm_is M 93 93 a0 = true) : gd (FX95_line_0 a0 M) (GX95_line_0 a0 M) (OkZ M) := by
  delta FX95_line_0 BX95_line_0
  refine gd_c n_a0 ?_
  refine gd_c n_a0 ?_
  refine gd_fi (fun c0_0 => ?_) (fun c0_0 => ?_)
  · exact gd_tZ (ext_dI (ext_r _)) (gX95_line_17 _ _ ⟨T.1, (tyb_sI (f := 324) rfl T.2)⟩ fz_0 )
  · exact gd_tZ (ext_dI (ext_r _)) (gX95_line_17 _ _ ⟨T.1, (tyb_sI (f := 324) rfl T.2)⟩ fz_1 )
noncomputable def GX95_line (a0 : Nat) (M : FM) : Int32 × FM := GX95_line_0 a0 M
theorem gX95_line (a0 : Nat) (M : FM) (T : Ty M) (n_a0 : fm_is M 93 93 a0 = true) : gd (FX95_line a0 M) (GX95_line a0 M) (OkZ M) := gX95_line_0 a0 M T n_a0 
noncomputable def GX96_signal_41 (M : FM) : FM :=
  M
theorem gX96_signal_41 (M : FM) (T : Ty M) : gd (FX96_signal_41 fN M) (GX96_signal_41 M) (OkV M) := by
  delta FX96_signal_41 BX96_signal_41
  exact ⟨rfl, ⟨T.1, T.2⟩, (ext_r _)⟩
noncomputable def GX96_signal_20 (a0 : Nat) (a1 : Int32) (a2 : Int32) (s0 : Nat) (s1 : Int32) (M : FM) : FM :=
  let M1 : FM := fm_sI M 394 s0 0 s1
  fi ((M1.1 394 a0 0) = 0) (
    let x2 : Nat := (M1.2.2 399 a0 0)
    let M3 : FM := fm_sI M1 3 x2 a1.toNatClampNeg (a2 &&& 1)
    let M4 : FM := GX96_settle a0 M3
    GX96_signal_41 M4) (
    GX96_signal_41 M1)
def HX96_signal_20 (a0 : Nat) (a1 : Int32) (a2 : Int32) (s0 : Nat) (s1 : Int32) (M : FM) : Prop := let M1 : FM := fm_sI M 394 s0 0 s1; (((M1.1 394 a0 0) = 0 → let x2 : Nat := (M1.2.2 399 a0 0); (fm_in M1 x2 a1 = true ∧ let M3 : FM := fm_sI M1 3 x2 a1.toNatClampNeg (a2 &&& 1); (HX96_settle a0 M3 ∧ True))) ∧ (¬ ((M1.1 394 a0 0) = 0) → True))
theorem gX96_signal_20 (a0 : Nat) (a1 : Int32) (a2 : Int32) (s0 : Nat) (s1 : Int32) (M : FM) (T : Ty M) (n_s0 : fm_is M 99 99 s0 = true) (n_a0 : fm_is M 99 99 a0 = true) (h : HX96_signal_20 a0 a1 a2 s0 s1 M) : gd (FX96_signal_20 fN a0 a1 a2 s0 s1 M) (GX96_signal_20 a0 a1 a2 s0 s1 M) (OkV M) := by
  delta FX96_signal_20 BX96_signal_20
  refine gd_c n_s0 ?_
  refine gd_c n_a0 ?_
  refine gd_fi (fun c0_0 => ?_) (fun c0_0 => ?_)
  · refine gd_c n_a0 ?_
    have f1 := (tN_399 T.1 n_a0)
    refine gd_c ⟨f1, (h.1 c0_0).1⟩ ?_
    refine gd_c n_a0 ?_
    refine gd_b (gX96_settle _ _ (h.1 c0_0).2.1) (fun K2 => ?_)
    exact gd_tV (ext_dI (ext_dI K2.2)) (gX96_signal_41  _ ⟨K2.1.1, K2.1.2⟩  )
  · exact gd_tV (ext_dI (ext_r _)) (gX96_signal_41  _ ⟨T.1, (tyb_sI (f := 394) rfl T.2)⟩  )
noncomputable def GX96_signal_15 (a0 : Nat) (a1 : Int32) (a2 : Int32) (s0 : Nat) (M : FM) : FM :=
  GX96_signal_20 a0 a1 a2 s0 (Int32.ofInt 1) M
def HX96_signal_15 (a0 : Nat) (a1 : Int32) (a2 : Int32) (s0 : Nat) (M : FM) : Prop := HX96_signal_20 a0 a1 a2 s0 (Int32.ofInt 1) M
theorem gX96_signal_15 (a0 : Nat) (a1 : Int32) (a2 : Int32) (s0 : Nat) (M : FM) (T : Ty M) (n_s0 : fm_is M 99 99 s0 = true) (n_a0 : fm_is M 99 99 a0 = true) (h : HX96_signal_15 a0 a1 a2 s0 M) : gd (FX96_signal_15 fN a0 a1 a2 s0 M) (GX96_signal_15 a0 a1 a2 s0 M) (OkV M) := by
  delta FX96_signal_15 BX96_signal_15
  exact gd_tV (ext_r _) (gX96_signal_20 _ _ _ _ _ _ ⟨T.1, T.2⟩ n_s0 n_a0 h)
noncomputable def GX96_signal_0 (a0 : Nat) (a1 : Int32) (a2 : Int32) (M : FM) : FM :=
  let r1 : Int32 × FM := GX96_isSource a1.toInt64 M
  fi (r1.1 = 0) (
    GX96_signal_15 a0 a1 a2 a0 r1.2) (
    fi (a1 = (Int32.ofInt 10)) (
      GX96_signal_15 a0 a1 a2 a0 r1.2) (
      GX96_signal_20 a0 a1 a2 a0 (Int32.ofInt 0) r1.2))
def HX96_signal_0 (a0 : Nat) (a1 : Int32) (a2 : Int32) (M : FM) : Prop := let r1 : Int32 × FM := GX96_isSource a1.toInt64 M; ((r1.1 = 0 → HX96_signal_15 a0 a1 a2 a0 r1.2) ∧ (¬ (r1.1 = 0) → ((a1 = (Int32.ofInt 10) → HX96_signal_15 a0 a1 a2 a0 r1.2) ∧ (¬ (a1 = (Int32.ofInt 10)) → HX96_signal_20 a0 a1 a2 a0 (Int32.ofInt 0) r1.2))))
theorem gX96_signal_0 (a0 : Nat) (a1 : Int32) (a2 : Int32) (M : FM) (T : Ty M) (n_a0 : fm_is M 99 99 a0 = true) (h : HX96_signal_0 a0 a1 a2 M) : gd (FX96_signal_0 fN a0 a1 a2 M) (GX96_signal_0 a0 a1 a2 M) (OkV M) := by
  delta FX96_signal_0 BX96_signal_0
  refine gd_b (gX96_isSource _ _ ⟨T.1, T.2⟩  ) (fun K0 => ?_)
  refine gd_fi (fun c1_0 => ?_) (fun c1_0 => ?_)
  · have f2 := (ext_is K0.2.1 (Nat.zero_lt_succ _) n_a0)
    have f3 := (ext_is K0.2.1 (Nat.zero_lt_succ _) n_a0)
    exact gd_tV K0.2.1 (gX96_signal_15 _ _ _ _ _ ⟨K0.1.1, K0.1.2⟩ f2 f3 (h.1 c1_0))
  · refine gd_fi (fun c4_0 => ?_) (fun c4_0 => ?_)
    · have f5 := (ext_is K0.2.1 (Nat.zero_lt_succ _) n_a0)
      have f6 := (ext_is K0.2.1 (Nat.zero_lt_succ _) n_a0)
      exact gd_tV K0.2.1 (gX96_signal_15 _ _ _ _ _ ⟨K0.1.1, K0.1.2⟩ f5 f6 ((h.2 c1_0).1 c4_0))
    · have f7 := (ext_is K0.2.1 (Nat.zero_lt_succ _) n_a0)
      have f8 := (ext_is K0.2.1 (Nat.zero_lt_succ _) n_a0)
      exact gd_tV K0.2.1 (gX96_signal_20 _ _ _ _ _ _ ⟨K0.1.1, K0.1.2⟩ f7 f8 ((h.2 c1_0).2 c4_0))
noncomputable def GX96_signal (a0 : Nat) (a1 : Int32) (a2 : Int32) (M : FM) : FM := GX96_signal_0 a0 a1 a2 M
def HX96_signal (a0 : Nat) (a1 : Int32) (a2 : Int32) (M : FM) : Prop := HX96_signal_0 a0 a1 a2 M
theorem gX96_signal (a0 : Nat) (a1 : Int32) (a2 : Int32) (M : FM) (T : Ty M) (n_a0 : fm_is M 99 99 a0 = true) (h : HX96_signal a0 a1 a2 M) : gd (FX96_signal fN a0 a1 a2 M) (GX96_signal a0 a1 a2 M) (OkV M) := gX96_signal_0 a0 a1 a2 M T n_a0 h
noncomputable def GX92_writeWindow_160 (M : FM) : FM :=
  M
theorem gX92_writeWindow_160 (M : FM) (T : Ty M) : gd (FX92_writeWindow_160 fN M) (GX92_writeWindow_160 M) (OkV M) := by
  delta FX92_writeWindow_160 BX92_writeWindow_160
  exact ⟨rfl, ⟨T.1, T.2⟩, (ext_r _)⟩
noncomputable def GX92_writeWindow_157 (s0 : Nat) (s1 : Int32) (M : FM) : FM :=
  let M1 : FM := fm_sI M 315 s0 0 s1
  GX92_writeWindow_160 M1
theorem gX92_writeWindow_157 (s0 : Nat) (s1 : Int32) (M : FM) (T : Ty M) (n_s0 : fm_is M 92 92 s0 = true) : gd (FX92_writeWindow_157 fN s0 s1 M) (GX92_writeWindow_157 s0 s1 M) (OkV M) := by
  delta FX92_writeWindow_157 BX92_writeWindow_157
  refine gd_c n_s0 ?_
  exact gd_tV (ext_dI (ext_r _)) (gX92_writeWindow_160  _ ⟨T.1, (tyb_sI (f := 315) rfl T.2)⟩  )
noncomputable def GX92_writeWindow_92 (a0 : Nat) (a3 : Int32) (a4 : Int64) (a6 : Int32) (a7 : Int64) (M : FM) : FM :=
  fi (a6 = 0) (
    fi ((lg_cmp a7 (Int64.ofInt 0)) = 0) (
      fi (a3 = (Int32.ofInt 4)) (
        let x1 : Int64 := (a4 &&& (Int64.ofInt 65535))
        fi ((lg_cmp x1 (Int64.ofInt 21845)) = 0) (
          GX92_writeWindow_157 a0 (Int32.ofInt 0) M) (
          fi ((lg_cmp x1 (Int64.ofInt 13107)) = 0) (
            GX92_writeWindow_157 a0 (((a4 >>> ((Int32.ofInt 16).toInt64 &&& 63)) &&& (Int64.ofInt 65535)).toInt32) M) (
            GX92_writeWindow_157 a0 (M.1 315 a0 0) M))) (
        GX92_writeWindow_160 M)) (
      GX92_writeWindow_160 M)) (
    GX92_writeWindow_160 M)
theorem gX92_writeWindow_92 (a0 : Nat) (a3 : Int32) (a4 : Int64) (a6 : Int32) (a7 : Int64) (M : FM) (T : Ty M) (n_a0 : fm_is M 92 92 a0 = true) : gd (FX92_writeWindow_92 fN a0 a3 a4 a6 a7 M) (GX92_writeWindow_92 a0 a3 a4 a6 a7 M) (OkV M) := by
  delta FX92_writeWindow_92 BX92_writeWindow_92
  refine gd_fi (fun c0_0 => ?_) (fun c0_0 => ?_)
  · refine gd_fi (fun c1_0 => ?_) (fun c1_0 => ?_)
    · refine gd_fi (fun c2_0 => ?_) (fun c2_0 => ?_)
      · refine gd_fi (fun c3_0 => ?_) (fun c3_0 => ?_)
        · exact gd_tV (ext_r _) (gX92_writeWindow_157 _ _ _ ⟨T.1, T.2⟩ n_a0 )
        · refine gd_fi (fun c4_0 => ?_) (fun c4_0 => ?_)
          · exact gd_tV (ext_r _) (gX92_writeWindow_157 _ _ _ ⟨T.1, T.2⟩ n_a0 )
          · refine gd_c n_a0 ?_
            exact gd_tV (ext_r _) (gX92_writeWindow_157 _ _ _ ⟨T.1, T.2⟩ n_a0 )
      · exact gd_tV (ext_r _) (gX92_writeWindow_160  _ ⟨T.1, T.2⟩  )
    · exact gd_tV (ext_r _) (gX92_writeWindow_160  _ ⟨T.1, T.2⟩  )
  · exact gd_tV (ext_r _) (gX92_writeWindow_160  _ ⟨T.1, T.2⟩  )
noncomputable def GX92_writeWindow_46 (a0 : Nat) (a3 : Int32) (a4 : Int64) (a6 : Int32) (a7 : Int64) (M : FM) : FM :=
  fi (a6 = (Int32.ofInt 4)) (
    let r1 : Int32 × FM := GX92_isDiskRegister a7 a3 M
    fi (r1.1 = 0) (
      GX92_writeWindow_92 a0 a3 a4 a6 a7 r1.2) (
      let x2 : Nat := (r1.2.2.2 300 a0 0)
      let M3 : FM := GX95_write x2 a7.toInt32 a4.toInt32 r1.2
      let x4 : Nat := (M3.2.2 300 a0 0)
      let r5 : Int32 × FM := GX95_line x4 M3
      let x6 : Nat := (M3.2.2 301 a0 0)
      let M7 : FM := GX96_signal x6 (Int32.ofInt 1) r5.1 r5.2
      GX92_writeWindow_160 M7)) (
    GX92_writeWindow_92 a0 a3 a4 a6 a7 M)
def HX92_writeWindow_46 (a0 : Nat) (a3 : Int32) (a4 : Int64) (a6 : Int32) (a7 : Int64) (M : FM) : Prop := ((a6 = (Int32.ofInt 4) → let r1 : Int32 × FM := GX92_isDiskRegister a7 a3 M; ((r1.1 = 0 → True) ∧ (¬ (r1.1 = 0) → let x2 : Nat := (r1.2.2.2 300 a0 0); (HX95_write x2 a7.toInt32 a4.toInt32 r1.2 ∧ let M3 : FM := GX95_write x2 a7.toInt32 a4.toInt32 r1.2; let x4 : Nat := (M3.2.2 300 a0 0); let r5 : Int32 × FM := GX95_line x4 M3; let x6 : Nat := (M3.2.2 301 a0 0); (HX96_signal x6 (Int32.ofInt 1) r5.1 r5.2 ∧ True))))) ∧ (¬ (a6 = (Int32.ofInt 4)) → True))
theorem gX92_writeWindow_46 (a0 : Nat) (a3 : Int32) (a4 : Int64) (a6 : Int32) (a7 : Int64) (M : FM) (T : Ty M) (n_a0 : fm_is M 92 92 a0 = true) (h : HX92_writeWindow_46 a0 a3 a4 a6 a7 M) : gd (FX92_writeWindow_46 fN a0 a3 a4 a6 a7 M) (GX92_writeWindow_46 a0 a3 a4 a6 a7 M) (OkV M) := by
  delta FX92_writeWindow_46 BX92_writeWindow_46
  refine gd_fi (fun c0_0 => ?_) (fun c0_0 => ?_)
  · refine gd_b (gX92_isDiskRegister _ _ _ ⟨T.1, T.2⟩  ) (fun K1 => ?_)
    refine gd_fi (fun c2_0 => ?_) (fun c2_0 => ?_)
    · have f3 := (ext_is K1.2.1 (Nat.zero_lt_succ _) n_a0)
      exact gd_tV K1.2.1 (gX92_writeWindow_92 _ _ _ _ _ _ ⟨K1.1.1, K1.1.2⟩ f3 )
    · have f4 := (ext_is K1.2.1 (Nat.zero_lt_succ _) n_a0)
      refine gd_c f4 ?_
      have f5 := (tN_300 K1.1.1 (ext_is K1.2.1 (Nat.zero_lt_succ _) n_a0))
      refine gd_c f5 ?_
      have f15 := (tN_300 K1.1.1 (ext_is K1.2.1 (Nat.zero_lt_succ _) n_a0))
      refine gd_b (gX95_write _ _ _ _ ⟨K1.1.1, K1.1.2⟩ f15 ((h.1 c0_0).2 c2_0).1) (fun K6 => ?_)
      have f7 := (ext_is K6.2 (Nat.zero_lt_succ _) (ext_is K1.2.1 (Nat.zero_lt_succ _) n_a0))
      refine gd_c f7 ?_
      have f8 := (ext_is K6.2 (Nat.zero_lt_succ _) (ext_is K1.2.1 (Nat.zero_lt_succ _) n_a0))
      refine gd_c f8 ?_
      have f9 := (tN_300 K6.1.1 (ext_is K6.2 (Nat.zero_lt_succ _) (ext_is K1.2.1 (Nat.zero_lt_succ _) n_a0)))
      refine gd_c f9 ?_
      have f14 := (tN_300 K6.1.1 (ext_is K6.2 (Nat.zero_lt_succ _) (ext_is K1.2.1 (Nat.zero_lt_succ _) n_a0)))
      refine gd_b (gX95_line _ _ ⟨K6.1.1, K6.1.2⟩ f14 ) (fun K10 => ?_)
      have f11 := (ext_is K10.2.1 (Nat.zero_lt_succ _) (tN_301 K6.1.1 (ext_is K6.2 (Nat.zero_lt_succ _) (ext_is K1.2.1 (Nat.zero_lt_succ _) n_a0))))
      refine gd_c f11 ?_
      have f13 := (ext_is K10.2.1 (Nat.zero_lt_succ _) (tN_301 K6.1.1 (ext_is K6.2 (Nat.zero_lt_succ _) (ext_is K1.2.1 (Nat.zero_lt_succ _) n_a0))))
      refine gd_b (gX96_signal _ _ _ _ ⟨K10.1.1, K10.1.2⟩ f13 ((h.1 c0_0).2 c2_0).2.1) (fun K12 => ?_)
      exact gd_tV (ext_tr K1.2.1 (ext_tr K6.2 (ext_tr K10.2.1 K12.2))) (gX92_writeWindow_160  _ ⟨K12.1.1, K12.1.2⟩  )
  · exact gd_tV (ext_r _) (gX92_writeWindow_92 _ _ _ _ _ _ ⟨T.1, T.2⟩ n_a0 )
noncomputable def GX92_writeWindow_0 (a0 : Nat) (a1 : Int64) (a3 : Int32) (a4 : Int64) (M : FM) : FM :=
  let r1 : Int32 × FM := GX92_windowOf a1 a3 M
  let r2 : Int64 × FM := GX92_baseOf r1.1 r1.2
  let x3 : Int64 := (a1 - r2.1)
  fi (r1.1 ≤ 0) (
    GX92_writeWindow_46 a0 a3 a4 r1.1 x3 r2.2) (
    fi ((Int32.ofInt 4) ≤ r1.1) (
      GX92_writeWindow_46 a0 a3 a4 r1.1 x3 r2.2) (
      let x4 : Nat := (r2.2.2.2 301 a0 0)
      let M5 : FM := GX96_write x4 (r1.1 - (Int32.ofInt 1)) x3 a3 a4 r2.2
      GX92_writeWindow_160 M5))
def HX92_writeWindow_0 (a0 : Nat) (a1 : Int64) (a3 : Int32) (a4 : Int64) (M : FM) : Prop := (HX92_windowOf a1 a3 M ∧ let r1 : Int32 × FM := GX92_windowOf a1 a3 M; let r2 : Int64 × FM := GX92_baseOf r1.1 r1.2; let x3 : Int64 := (a1 - r2.1); ((r1.1 ≤ 0 → HX92_writeWindow_46 a0 a3 a4 r1.1 x3 r2.2) ∧ (¬ (r1.1 ≤ 0) → (((Int32.ofInt 4) ≤ r1.1 → HX92_writeWindow_46 a0 a3 a4 r1.1 x3 r2.2) ∧ (¬ ((Int32.ofInt 4) ≤ r1.1) → let x4 : Nat := (r2.2.2.2 301 a0 0); (HX96_write x4 (r1.1 - (Int32.ofInt 1)) x3 a3 a4 r2.2 ∧ True))))))
theorem gX92_writeWindow_0 (a0 : Nat) (a1 : Int64) (a3 : Int32) (a4 : Int64) (M : FM) (T : Ty M) (n_a0 : fm_is M 92 92 a0 = true) (h : HX92_writeWindow_0 a0 a1 a3 a4 M) : gd (FX92_writeWindow_0 fN a0 a1 a3 a4 M) (GX92_writeWindow_0 a0 a1 a3 a4 M) (OkV M) := by
  delta FX92_writeWindow_0 BX92_writeWindow_0
  refine gd_b (gX92_windowOf _ _ _ h.1) (fun K0 => ?_)
  refine gd_b (gX92_baseOf _ _ ⟨K0.1.1, K0.1.2⟩  ) (fun K1 => ?_)
  refine gd_fi (fun c2_0 => ?_) (fun c2_0 => ?_)
  · have f3 := (ext_is K1.2 (Nat.zero_lt_succ _) (ext_is K0.2 (Nat.zero_lt_succ _) n_a0))
    exact gd_tV (ext_tr K0.2 K1.2) (gX92_writeWindow_46 _ _ _ _ _ _ ⟨K1.1.1, K1.1.2⟩ f3 (h.2.1 c2_0))
  · refine gd_fi (fun c4_0 => ?_) (fun c4_0 => ?_)
    · have f5 := (ext_is K1.2 (Nat.zero_lt_succ _) (ext_is K0.2 (Nat.zero_lt_succ _) n_a0))
      exact gd_tV (ext_tr K0.2 K1.2) (gX92_writeWindow_46 _ _ _ _ _ _ ⟨K1.1.1, K1.1.2⟩ f5 ((h.2.2 c2_0).1 c4_0))
    · have f6 := (ext_is K1.2 (Nat.zero_lt_succ _) (ext_is K0.2 (Nat.zero_lt_succ _) n_a0))
      refine gd_c f6 ?_
      have f7 := (tN_301 K1.1.1 (ext_is K1.2 (Nat.zero_lt_succ _) (ext_is K0.2 (Nat.zero_lt_succ _) n_a0)))
      refine gd_c f7 ?_
      have f9 := (tN_301 K1.1.1 (ext_is K1.2 (Nat.zero_lt_succ _) (ext_is K0.2 (Nat.zero_lt_succ _) n_a0)))
      refine gd_b (gX96_write _ _ _ _ _ _ ⟨K1.1.1, K1.1.2⟩ f9 ((h.2.2 c2_0).2 c4_0).1) (fun K8 => ?_)
      exact gd_tV (ext_tr K0.2 (ext_tr K1.2 K8.2)) (gX92_writeWindow_160  _ ⟨K8.1.1, K8.1.2⟩  )
noncomputable def GX92_writeWindow (a0 : Nat) (a1 : Int64) (a3 : Int32) (a4 : Int64) (M : FM) : FM := GX92_writeWindow_0 a0 a1 a3 a4 M
def HX92_writeWindow (a0 : Nat) (a1 : Int64) (a3 : Int32) (a4 : Int64) (M : FM) : Prop := HX92_writeWindow_0 a0 a1 a3 a4 M
theorem gX92_writeWindow (a0 : Nat) (a1 : Int64) (a3 : Int32) (a4 : Int64) (M : FM) (T : Ty M) (n_a0 : fm_is M 92 92 a0 = true) (h : HX92_writeWindow a0 a1 a3 a4 M) : gd (FX92_writeWindow fN a0 a1 a3 a4 M) (GX92_writeWindow a0 a1 a3 a4 M) (OkV M) := gX92_writeWindow_0 a0 a1 a3 a4 M T n_a0 h
def kX92_put (k10 : Nat → Int32 → Int64 → Int32 → FM → Option (FM)) : (Nat × Int32 × Int64 × Int32 × FM) ⊕ (FM) → Option (FM)
  | .inl (v0, v1, v2, v3, M') => k10 v0 v1 v2 v3 M'
  | .inr (r) => some r
def pX92_put (M : FM) : (Nat × Int32 × Int64 × Int32 × FM) ⊕ (FM) → Prop
  | .inl (_, _, _, _, M') => OkV M M'
  | .inr (r) => OkV M r
theorem pX92_put_t {M M1 : FM} (e : Ext M M1) : ∀ y, pX92_put M1 y → pX92_put M y
  | .inl (_, _, _, _, _), h => ⟨h.1, ext_tr e h.2⟩
  | .inr (r), h => ⟨h.1, ext_tr e h.2⟩
noncomputable def GX92_put_91 (M : FM) : (Nat × Int32 × Int64 × Int32 × FM) ⊕ (FM) :=
  (.inr M)
theorem gX92_put_91 (k10 : Nat → Int32 → Int64 → Int32 → FM → Option (FM)) (M : FM) (T : Ty M) : gs (FX92_put_91 fN k10 M) (GX92_put_91 M) (kX92_put k10) (pX92_put M) := by
  delta FX92_put_91 BX92_put_91
  exact And.intro rfl (And.intro (And.intro T.1 T.2) ((ext_r _)))
noncomputable def GX92_put_0 (a0 : Nat) (a1 : Int32) (a2 : Int64) (M : FM) : (Nat × Int32 × Int64 × Int32 × FM) ⊕ (FM) :=
  fi ((M.1 322 a0 0) = 0) (
    (.inl (a0, a1, a2, (Int32.ofInt 0), M))) (
    let x1 : Nat := (M.2.2 323 a0 0)
    let r2 : Int32 × FM := GX93_areBytes (M.2.1 3 x1 (Int32.ofInt 0).toNatClampNeg) a1.toInt64 M
    fi (r2.1 = 0) (
      let x3 : Nat := (r2.2.2.2 323 a0 0)
      let M4 : FM := GX92_writeWindow a0 (r2.2.2.1 3 x3 (Int32.ofInt 0).toNatClampNeg) a1 a2 r2.2
      GX92_put_91 M4) (
      let x5 : Nat := (r2.2.2.2 323 a0 0)
      let x6 : Nat := (r2.2.2.2 298 a0 0)
      let M7 : FM := GX93_keep x6 (r2.2.2.1 3 x5 (Int32.ofInt 0).toNatClampNeg) a1 a2 r2.2
      GX92_put_91 M7))
def HX92_put_0 (a0 : Nat) (a1 : Int32) (a2 : Int64) (M : FM) : Prop := (((M.1 322 a0 0) = 0 → True) ∧ (¬ ((M.1 322 a0 0) = 0) → let x1 : Nat := (M.2.2 323 a0 0); let r2 : Int32 × FM := GX93_areBytes (M.2.1 3 x1 (Int32.ofInt 0).toNatClampNeg) a1.toInt64 M; ((r2.1 = 0 → let x3 : Nat := (r2.2.2.2 323 a0 0); (HX92_writeWindow a0 (r2.2.2.1 3 x3 (Int32.ofInt 0).toNatClampNeg) a1 a2 r2.2 ∧ True)) ∧ (¬ (r2.1 = 0) → let x5 : Nat := (r2.2.2.2 323 a0 0); let x6 : Nat := (r2.2.2.2 298 a0 0); (HX93_keep x6 (r2.2.2.1 3 x5 (Int32.ofInt 0).toNatClampNeg) a1 a2 r2.2 ∧ True)))))
theorem gX92_put_0 (k10 : Nat → Int32 → Int64 → Int32 → FM → Option (FM)) (a0 : Nat) (a1 : Int32) (a2 : Int64) (M : FM) (T : Ty M) (n_a0 : fm_is M 92 92 a0 = true) (h : HX92_put_0 a0 a1 a2 M) : gs (FX92_put_0 fN k10 a0 a1 a2 M) (GX92_put_0 a0 a1 a2 M) (kX92_put k10) (pX92_put M) := by
  delta FX92_put_0 BX92_put_0
  refine gs_c n_a0 ?_
  refine gs_fi (fun c0_0 => ?_) (fun c0_0 => ?_)
  · exact And.intro rfl (And.intro (And.intro T.1 T.2) ((ext_r _)))
  · refine gs_c n_a0 ?_
    have f15 := (tN_323 T.1 n_a0)
    have f16 := (fm_inl (i := (Int32.ofInt 0)) (tL_323 T.1 n_a0) (by decide))
    refine gs_c ⟨f15, f16⟩ ?_
    refine gs_b (gX93_areBytes _ _ _ ⟨T.1, T.2⟩  ) (fun K1 => ?_)
    refine gs_fi (fun c2_0 => ?_) (fun c2_0 => ?_)
    · have f3 := (ext_is K1.2.1 (Nat.zero_lt_succ _) n_a0)
      refine gs_c f3 ?_
      have f7 := (tN_323 K1.1.1 (ext_is K1.2.1 (Nat.zero_lt_succ _) n_a0))
      have f8 := (fm_inl (i := (Int32.ofInt 0)) (tL_323 K1.1.1 (ext_is K1.2.1 (Nat.zero_lt_succ _) n_a0)) (by decide))
      refine gs_c ⟨f7, f8⟩ ?_
      have f4 := (ext_is K1.2.1 (Nat.zero_lt_succ _) n_a0)
      refine gs_c f4 ?_
      have f6 := (ext_is K1.2.1 (Nat.zero_lt_succ _) n_a0)
      refine gs_b (gX92_writeWindow _ _ _ _ _ ⟨K1.1.1, K1.1.2⟩ f6 ((h.2 c0_0).1 c2_0).1) (fun K5 => ?_)
      exact gs_t (pX92_put_t (ext_tr K1.2.1 K5.2)) (gX92_put_91 k10  _ ⟨K5.1.1, K5.1.2⟩  )
    · have f9 := (ext_is K1.2.1 (Nat.zero_lt_succ _) n_a0)
      refine gs_c f9 ?_
      have f10 := (ext_is K1.2.1 (Nat.zero_lt_succ _) n_a0)
      refine gs_c f10 ?_
      have f13 := (tN_323 K1.1.1 (ext_is K1.2.1 (Nat.zero_lt_succ _) n_a0))
      have f14 := (fm_inl (i := (Int32.ofInt 0)) (tL_323 K1.1.1 (ext_is K1.2.1 (Nat.zero_lt_succ _) n_a0)) (by decide))
      refine gs_c ⟨f13, f14⟩ ?_
      have f11 := (tN_298 K1.1.1 (ext_is K1.2.1 (Nat.zero_lt_succ _) n_a0))
      refine gs_c f11 ?_
      refine gs_b (gX93_keep _ _ _ _ _ ((h.2 c0_0).2 c2_0).1) (fun K12 => ?_)
      exact gs_t (pX92_put_t (ext_tr K1.2.1 K12.2)) (gX92_put_91 k10  _ ⟨K12.1.1, K12.1.2⟩  )
noncomputable def GX92_put_10 (a0 : Nat) (a1 : Int32) (a2 : Int64) (a4 : Int32) (M : FM) : (Nat × Int32 × Int64 × Int32 × FM) ⊕ (FM) :=
  fi (a1 ≤ a4) (
    GX92_put_91 M) (
    let x1 : Nat := (M.2.2 323 a0 0)
    let x2 : Nat := (M.2.2 298 a0 0)
    let M3 : FM := GX93_put x2 (M.2.1 3 x1 a4.toNatClampNeg) (((a2.toUInt64 >>> (((Int32.ofInt 8) * a4).toInt64.toUInt64 &&& Int64.toUInt64 63)).toInt64).toInt32) M
    let x4 : Int32 := a4 + (Int32.ofInt 1)
    (.inl (a0, a1, a2, x4, M3)))
def HX92_put_10 (a0 : Nat) (a1 : Int32) (a2 : Int64) (a4 : Int32) (M : FM) : Prop := ((a1 ≤ a4 → True) ∧ (¬ (a1 ≤ a4) → let x1 : Nat := (M.2.2 323 a0 0); (fm_in M x1 a4 = true ∧ let x2 : Nat := (M.2.2 298 a0 0); (HX93_put x2 (M.2.1 3 x1 a4.toNatClampNeg) (((a2.toUInt64 >>> (((Int32.ofInt 8) * a4).toInt64.toUInt64 &&& Int64.toUInt64 63)).toInt64).toInt32) M ∧ True))))
theorem gX92_put_10 (k10 : Nat → Int32 → Int64 → Int32 → FM → Option (FM)) (a0 : Nat) (a1 : Int32) (a2 : Int64) (a4 : Int32) (M : FM) (T : Ty M) (n_a0 : fm_is M 92 92 a0 = true) (h : HX92_put_10 a0 a1 a2 a4 M) : gs (FX92_put_10 fN k10 a0 a1 a2 a4 M) (GX92_put_10 a0 a1 a2 a4 M) (kX92_put k10) (pX92_put M) := by
  delta FX92_put_10 BX92_put_10
  refine gs_fi (fun c0_0 => ?_) (fun c0_0 => ?_)
  · exact gs_t (pX92_put_t (ext_r _)) (gX92_put_91 k10  _ ⟨T.1, T.2⟩  )
  · refine gs_c n_a0 ?_
    refine gs_c n_a0 ?_
    have f3 := (tN_323 T.1 n_a0)
    refine gs_c ⟨f3, (h.2 c0_0).1⟩ ?_
    have f1 := (tN_298 T.1 n_a0)
    refine gs_c f1 ?_
    refine gs_b (gX93_put _ _ _ _ (h.2 c0_0).2.1) (fun K2 => ?_)
    exact And.intro rfl (And.intro (And.intro K2.1.1 K2.1.2) K2.2)
noncomputable def GX92_put (a0 : Nat) (a1 : Int32) (a2 : Int64) (M : FM) : FM := (FX92_put fN a0 a1 a2 M).getD M
def HX92_put (a0 : Nat) (a1 : Int32) (a2 : Int64) (M : FM) : Prop := ∃ r, FX92_put fN a0 a1 a2 M = some r ∧ OkV M r
theorem gX92_put (a0 : Nat) (a1 : Int32) (a2 : Int64) (M : FM) (h : HX92_put a0 a1 a2 M) : gd (FX92_put fN a0 a1 a2 M) (GX92_put a0 a1 a2 M) (OkV M) := gd_op h
noncomputable def GX98_loaded_68 (s0 : Int64) (M : FM) : Int64 × FM :=
  (s0, M)
theorem gX98_loaded_68 (s0 : Int64) (M : FM) (T : Ty M) : gd (FX98_loaded_68 s0 M) (GX98_loaded_68 s0 M) (OkR M) := by
  delta FX98_loaded_68 BX98_loaded_68
  exact ⟨rfl, ⟨T.1, T.2⟩, (ext_r _)⟩
noncomputable def GX98_loaded_66 (a7 : Int64) (M : FM) : Int64 × FM :=
  GX98_loaded_68 a7 M
theorem gX98_loaded_66 (a7 : Int64) (M : FM) (T : Ty M) : gd (FX98_loaded_66 a7 M) (GX98_loaded_66 a7 M) (OkR M) := by
  delta FX98_loaded_66 BX98_loaded_66
  exact gd_tR (ext_r _) (gX98_loaded_68 _ _ ⟨T.1, T.2⟩  )
noncomputable def GX98_loaded_0 (a0 : Nat) (a1 : Int64) (M : FM) : Int64 × FM :=
  let x1 : Nat := (M.2.2 355 a0 0)
  let x2 : Int64 := ((Int64.ofInt 8) * (M.2.1 3 x1 (Int32.ofInt 1).toNatClampNeg))
  fi ((lg_cmp x2 (Int64.ofInt 64)) = 0) (
    (a1, M)) (
    let x3 : Int64 := ((Int64.ofInt 1) <<< (x2.toInt32.toInt64 &&& 63))
    let x4 : Int64 := (a1 &&& (x3 - (Int64.ofInt 1)))
    let x5 : Nat := (M.2.2 355 a0 0)
    fi ((lg_cmp (M.2.1 3 x5 (Int32.ofInt 3).toNatClampNeg) (Int64.ofInt 0)) = 0) (
      fi ((lg_cmp x4 (x3 / (Int64.ofInt 2))) < 0) (
        GX98_loaded_66 x4 M) (
        GX98_loaded_68 (x4 - x3) M)) (
      GX98_loaded_66 x4 M))
theorem gX98_loaded_0 (a0 : Nat) (a1 : Int64) (M : FM) (T : Ty M) (n_a0 : fm_is M 94 94 a0 = true) : gd (FX98_loaded_0 a0 a1 M) (GX98_loaded_0 a0 a1 M) (OkR M) := by
  delta FX98_loaded_0 BX98_loaded_0
  refine gd_c n_a0 ?_
  have f5 := (tN_355 T.1 n_a0)
  have f6 := (fm_inl (i := (Int32.ofInt 1)) (tL_355 T.1 n_a0) (by decide))
  refine gd_c ⟨f5, f6⟩ ?_
  refine gd_fi (fun c0_0 => ?_) (fun c0_0 => ?_)
  · exact ⟨rfl, ⟨T.1, T.2⟩, (ext_r _)⟩
  · refine gd_c n_a0 ?_
    have f3 := (tN_355 T.1 n_a0)
    have f4 := (fm_inl (i := (Int32.ofInt 3)) (tL_355 T.1 n_a0) (by decide))
    refine gd_c ⟨f3, f4⟩ ?_
    refine gd_fi (fun c1_0 => ?_) (fun c1_0 => ?_)
    · refine gd_n (by decide) ?_
      refine gd_fi (fun c2_0 => ?_) (fun c2_0 => ?_)
      · exact gd_tR (ext_r _) (gX98_loaded_66 _ _ ⟨T.1, T.2⟩  )
      · exact gd_tR (ext_r _) (gX98_loaded_68 _ _ ⟨T.1, T.2⟩  )
    · exact gd_tR (ext_r _) (gX98_loaded_66 _ _ ⟨T.1, T.2⟩  )
noncomputable def GX98_loaded (a0 : Nat) (a1 : Int64) (M : FM) : Int64 × FM := GX98_loaded_0 a0 a1 M
theorem gX98_loaded (a0 : Nat) (a1 : Int64) (M : FM) (T : Ty M) (n_a0 : fm_is M 94 94 a0 = true) : gd (FX98_loaded a0 a1 M) (GX98_loaded a0 a1 M) (OkR M) := gX98_loaded_0 a0 a1 M T n_a0 
noncomputable def GX98_finish_93 (a0 : Nat) (a4 : Int32) (M : FM) : Int32 × FM :=
  let M1 : FM := fm_sL M 347 a0 0 ((M.2.1 347 a0 0) + (M.1 354 a0 0).toInt64)
  let M2 : FM := fm_sL M1 348 a0 0 ((M1.2.1 348 a0 0) + (Int64.ofInt 1))
  let M3 : FM := fm_sI M2 353 a0 0 (Int32.ofInt (-1))
  (a4, M3)
theorem gX98_finish_93 (a0 : Nat) (a4 : Int32) (M : FM) (T : Ty M) (n_a0 : fm_is M 94 94 a0 = true) : gd (FX98_finish_93 a0 a4 M) (GX98_finish_93 a0 a4 M) (OkR M) := by
  delta FX98_finish_93 BX98_finish_93
  refine gd_c n_a0 ?_
  refine gd_c n_a0 ?_
  refine gd_c n_a0 ?_
  refine gd_c n_a0 ?_
  refine gd_c n_a0 ?_
  refine gd_c n_a0 ?_
  exact ⟨rfl, ⟨T.1, (tyb_sI (f := 353) rfl T.2)⟩, (ext_dL (ext_dL (ext_dI (ext_r _))))⟩
noncomputable def GX98_finish_90 (a0 : Nat) (a4 : Int32) (s0 : Nat) (s1 : Int32) (s2 : Int64) (M : FM) : Int32 × FM :=
  let M1 : FM := GX98_put s0 s1 s2 M
  GX98_finish_93 a0 a4 M1
def HX98_finish_90 (a0 : Nat) (a4 : Int32) (s0 : Nat) (s1 : Int32) (s2 : Int64) (M : FM) : Prop := (HX98_put s0 s1 s2 M ∧ True)
theorem gX98_finish_90 (a0 : Nat) (a4 : Int32) (s0 : Nat) (s1 : Int32) (s2 : Int64) (M : FM) (T : Ty M) (n_s0 : fm_is M 94 94 s0 = true) (n_a0 : fm_is M 94 94 a0 = true) (h : HX98_finish_90 a0 a4 s0 s1 s2 M) : gd (FX98_finish_90 a0 a4 s0 s1 s2 M) (GX98_finish_90 a0 a4 s0 s1 s2 M) (OkR M) := by
  delta FX98_finish_90 BX98_finish_90
  refine gd_c n_s0 ?_
  refine gd_b (gX98_put _ _ _ _ ⟨T.1, T.2⟩ n_s0 h.1) (fun K0 => ?_)
  have f1 := (ext_is K0.2 (Nat.zero_lt_succ _) n_a0)
  exact gd_tR K0.2 (gX98_finish_93 _ _ _ ⟨K0.1.1, K0.1.2⟩ f1 )
noncomputable def GX98_finish_89 (a0 : Nat) (a2 : Int64) (a4 : Int32) (s0 : Nat) (s1 : Int32) (M : FM) : Int32 × FM :=
  GX98_finish_90 a0 a4 s0 s1 a2 M
def HX98_finish_89 (a0 : Nat) (a2 : Int64) (a4 : Int32) (s0 : Nat) (s1 : Int32) (M : FM) : Prop := HX98_finish_90 a0 a4 s0 s1 a2 M
theorem gX98_finish_89 (a0 : Nat) (a2 : Int64) (a4 : Int32) (s0 : Nat) (s1 : Int32) (M : FM) (T : Ty M) (n_s0 : fm_is M 94 94 s0 = true) (n_a0 : fm_is M 94 94 a0 = true) (h : HX98_finish_89 a0 a2 a4 s0 s1 M) : gd (FX98_finish_89 a0 a2 a4 s0 s1 M) (GX98_finish_89 a0 a2 a4 s0 s1 M) (OkR M) := by
  delta FX98_finish_89 BX98_finish_89
  exact gd_tR (ext_r _) (gX98_finish_90 _ _ _ _ _ _ ⟨T.1, T.2⟩ n_s0 n_a0 h)
noncomputable def GX98_finish_14 (a0 : Nat) (a1 : Int32) (a2 : Int64) (s0 : Nat) (s1 : Int32) (M : FM) : Int32 × FM :=
  let M1 : FM := fm_sI M 345 s0 0 s1
  fi ((M1.1 345 a0 0) ≤ 0) (
    let x2 : Int32 := (M1.1 353 a0 0)
    fi (a1 = 0) (
      GX98_finish_93 a0 x2 M1) (
      fi (x2 = (Int32.ofInt 3)) (
        GX98_finish_93 a0 x2 M1) (
        let x3 : Nat := (M1.2.2 355 a0 0)
        fi (x2 = (Int32.ofInt 2)) (
          let r4 : Int64 × FM := GX98_loaded a0 a2 M1
          GX98_finish_90 a0 x2 a0 ((M1.2.1 3 x3 (Int32.ofInt 4).toNatClampNeg).toInt32) r4.1 r4.2) (
          fi (x2 = (Int32.ofInt 4)) (
            let x5 : Nat := (M1.2.2 355 a0 0)
            fi ((lg_cmp (M1.2.1 3 x5 (Int32.ofInt 1).toNatClampNeg) (Int64.ofInt 4)) = 0) (
              GX98_finish_90 a0 x2 a0 ((M1.2.1 3 x3 (Int32.ofInt 4).toNatClampNeg).toInt32) a2.toInt32.toInt64 M1) (
              GX98_finish_89 a0 a2 x2 a0 ((M1.2.1 3 x3 (Int32.ofInt 4).toNatClampNeg).toInt32) M1)) (
            GX98_finish_89 a0 a2 x2 a0 ((M1.2.1 3 x3 (Int32.ofInt 4).toNatClampNeg).toInt32) M1))))) (
    ((Int32.ofInt 0), M1))
def HX98_finish_14 (a0 : Nat) (a1 : Int32) (a2 : Int64) (s0 : Nat) (s1 : Int32) (M : FM) : Prop := let M1 : FM := fm_sI M 345 s0 0 s1; (((M1.1 345 a0 0) ≤ 0 → let x2 : Int32 := (M1.1 353 a0 0); ((a1 = 0 → True) ∧ (¬ (a1 = 0) → ((x2 = (Int32.ofInt 3) → True) ∧ (¬ (x2 = (Int32.ofInt 3)) → let x3 : Nat := (M1.2.2 355 a0 0); ((x2 = (Int32.ofInt 2) → let r4 : Int64 × FM := GX98_loaded a0 a2 M1; HX98_finish_90 a0 x2 a0 ((M1.2.1 3 x3 (Int32.ofInt 4).toNatClampNeg).toInt32) r4.1 r4.2) ∧ (¬ (x2 = (Int32.ofInt 2)) → ((x2 = (Int32.ofInt 4) → let x5 : Nat := (M1.2.2 355 a0 0); (((lg_cmp (M1.2.1 3 x5 (Int32.ofInt 1).toNatClampNeg) (Int64.ofInt 4)) = 0 → HX98_finish_90 a0 x2 a0 ((M1.2.1 3 x3 (Int32.ofInt 4).toNatClampNeg).toInt32) a2.toInt32.toInt64 M1) ∧ (¬ ((lg_cmp (M1.2.1 3 x5 (Int32.ofInt 1).toNatClampNeg) (Int64.ofInt 4)) = 0) → HX98_finish_89 a0 a2 x2 a0 ((M1.2.1 3 x3 (Int32.ofInt 4).toNatClampNeg).toInt32) M1))) ∧ (¬ (x2 = (Int32.ofInt 4)) → HX98_finish_89 a0 a2 x2 a0 ((M1.2.1 3 x3 (Int32.ofInt 4).toNatClampNeg).toInt32) M1))))))))) ∧ (¬ ((M1.1 345 a0 0) ≤ 0) → True))
theorem gX98_finish_14 (a0 : Nat) (a1 : Int32) (a2 : Int64) (s0 : Nat) (s1 : Int32) (M : FM) (T : Ty M) (n_s0 : fm_is M 94 94 s0 = true) (n_a0 : fm_is M 94 94 a0 = true) (h : HX98_finish_14 a0 a1 a2 s0 s1 M) : gd (FX98_finish_14 a0 a1 a2 s0 s1 M) (GX98_finish_14 a0 a1 a2 s0 s1 M) (OkR M) := by
  delta FX98_finish_14 BX98_finish_14
  refine gd_c n_s0 ?_
  refine gd_c n_a0 ?_
  refine gd_fi (fun c0_0 => ?_) (fun c0_0 => ?_)
  · refine gd_c n_a0 ?_
    refine gd_fi (fun c1_0 => ?_) (fun c1_0 => ?_)
    · exact gd_tR (ext_dI (ext_r _)) (gX98_finish_93 _ _ _ ⟨T.1, (tyb_sI (f := 345) rfl T.2)⟩ n_a0 )
    · refine gd_fi (fun c2_0 => ?_) (fun c2_0 => ?_)
      · exact gd_tR (ext_dI (ext_r _)) (gX98_finish_93 _ _ _ ⟨T.1, (tyb_sI (f := 345) rfl T.2)⟩ n_a0 )
      · refine gd_c n_a0 ?_
        have f11 := (tN_355 T.1 n_a0)
        have f12 := (fm_inl (i := (Int32.ofInt 4)) (tL_355 T.1 n_a0) (by decide))
        refine gd_c ⟨f11, f12⟩ ?_
        refine gd_fi (fun c3_0 => ?_) (fun c3_0 => ?_)
        · refine gd_c n_a0 ?_
          refine gd_b (gX98_loaded _ _ _ ⟨T.1, (tyb_sI (f := 345) rfl T.2)⟩ n_a0 ) (fun K4 => ?_)
          have f5 := (ext_is K4.2 (Nat.zero_lt_succ _) n_a0)
          have f6 := (ext_is K4.2 (Nat.zero_lt_succ _) n_a0)
          exact gd_tR (ext_dI K4.2) (gX98_finish_90 _ _ _ _ _ _ ⟨K4.1.1, K4.1.2⟩ f5 f6 ((((h.1 c0_0).2 c1_0).2 c2_0).1 c3_0))
        · refine gd_fi (fun c7_0 => ?_) (fun c7_0 => ?_)
          · refine gd_c n_a0 ?_
            have f9 := (tN_355 T.1 n_a0)
            have f10 := (fm_inl (i := (Int32.ofInt 1)) (tL_355 T.1 n_a0) (by decide))
            refine gd_c ⟨f9, f10⟩ ?_
            refine gd_fi (fun c8_0 => ?_) (fun c8_0 => ?_)
            · exact gd_tR (ext_dI (ext_r _)) (gX98_finish_90 _ _ _ _ _ _ ⟨T.1, (tyb_sI (f := 345) rfl T.2)⟩ n_a0 n_a0 ((((((h.1 c0_0).2 c1_0).2 c2_0).2 c3_0).1 c7_0).1 c8_0))
            · exact gd_tR (ext_dI (ext_r _)) (gX98_finish_89 _ _ _ _ _ _ ⟨T.1, (tyb_sI (f := 345) rfl T.2)⟩ n_a0 n_a0 ((((((h.1 c0_0).2 c1_0).2 c2_0).2 c3_0).1 c7_0).2 c8_0))
          · exact gd_tR (ext_dI (ext_r _)) (gX98_finish_89 _ _ _ _ _ _ ⟨T.1, (tyb_sI (f := 345) rfl T.2)⟩ n_a0 n_a0 (((((h.1 c0_0).2 c1_0).2 c2_0).2 c3_0).2 c7_0))
  · exact ⟨rfl, ⟨T.1, (tyb_sI (f := 345) rfl T.2)⟩, (ext_dI (ext_r _))⟩
noncomputable def GX98_finish_0 (a0 : Nat) (a1 : Int32) (a2 : Int64) (M : FM) : Int32 × FM :=
  fi ((M.1 353 a0 0) = (Int32.ofInt (-1))) (
    GX98_finish_14 a0 a1 a2 a0 (Int32.ofInt 1) M) (
    GX98_finish_14 a0 a1 a2 a0 (Int32.ofInt 0) M)
def HX98_finish_0 (a0 : Nat) (a1 : Int32) (a2 : Int64) (M : FM) : Prop := (((M.1 353 a0 0) = (Int32.ofInt (-1)) → HX98_finish_14 a0 a1 a2 a0 (Int32.ofInt 1) M) ∧ (¬ ((M.1 353 a0 0) = (Int32.ofInt (-1))) → HX98_finish_14 a0 a1 a2 a0 (Int32.ofInt 0) M))
theorem gX98_finish_0 (a0 : Nat) (a1 : Int32) (a2 : Int64) (M : FM) (T : Ty M) (n_a0 : fm_is M 94 94 a0 = true) (h : HX98_finish_0 a0 a1 a2 M) : gd (FX98_finish_0 a0 a1 a2 M) (GX98_finish_0 a0 a1 a2 M) (OkR M) := by
  delta FX98_finish_0 BX98_finish_0
  refine gd_c n_a0 ?_
  refine gd_fi (fun c0_0 => ?_) (fun c0_0 => ?_)
  · exact gd_tR (ext_r _) (gX98_finish_14 _ _ _ _ _ _ ⟨T.1, T.2⟩ n_a0 n_a0 (h.1 c0_0))
  · exact gd_tR (ext_r _) (gX98_finish_14 _ _ _ _ _ _ ⟨T.1, T.2⟩ n_a0 n_a0 (h.2 c0_0))
noncomputable def GX98_finish (a0 : Nat) (a1 : Int32) (a2 : Int64) (M : FM) : Int32 × FM := GX98_finish_0 a0 a1 a2 M
def HX98_finish (a0 : Nat) (a1 : Int32) (a2 : Int64) (M : FM) : Prop := HX98_finish_0 a0 a1 a2 M
theorem gX98_finish (a0 : Nat) (a1 : Int32) (a2 : Int64) (M : FM) (T : Ty M) (n_a0 : fm_is M 94 94 a0 = true) (h : HX98_finish a0 a1 a2 M) : gd (FX98_finish a0 a1 a2 M) (GX98_finish a0 a1 a2 M) (OkR M) := gX98_finish_0 a0 a1 a2 M T n_a0 h
noncomputable def GX92_store_0 (a0 : Nat) (a1 : Int32) (a2 : Int64) (a4 : Int32) (a5 : Int64) (M : FM) : Int32 × FM :=
  let r1 : Int32 × FM := GX92_finds a0 a1 a2 a4 (Int32.ofInt 2) M
  fi (r1.1 = 0) (
    ((Int32.ofInt 0), r1.2)) (
    let M2 : FM := GX92_watch a0 a1 a4 r1.2
    let M3 : FM := GX92_put a0 a4 a5 M2
    let x4 : Nat := (M3.2.2 303 a0 0)
    let x5 : Nat := (M3.2.2 3 x4 a1.toNatClampNeg)
    let r6 : Int32 × FM := GX98_finish x5 (Int32.ofInt 0) (Int64.ofInt 0) M3
    ((Int32.ofInt 1), r6.2))
def HX92_store_0 (a0 : Nat) (a1 : Int32) (a2 : Int64) (a4 : Int32) (a5 : Int64) (M : FM) : Prop := (HX92_finds a0 a1 a2 a4 (Int32.ofInt 2) M ∧ let r1 : Int32 × FM := GX92_finds a0 a1 a2 a4 (Int32.ofInt 2) M; ((r1.1 = 0 → True) ∧ (¬ (r1.1 = 0) → (HX92_watch a0 a1 a4 r1.2 ∧ let M2 : FM := GX92_watch a0 a1 a4 r1.2; (HX92_put a0 a4 a5 M2 ∧ let M3 : FM := GX92_put a0 a4 a5 M2; let x4 : Nat := (M3.2.2 303 a0 0); (fm_in M3 x4 a1 = true ∧ let x5 : Nat := (M3.2.2 3 x4 a1.toNatClampNeg); (fm_is M3 94 94 x5 = true ∧ (HX98_finish x5 (Int32.ofInt 0) (Int64.ofInt 0) M3 ∧ True))))))))
theorem gX92_store_0 (a0 : Nat) (a1 : Int32) (a2 : Int64) (a4 : Int32) (a5 : Int64) (M : FM) (T : Ty M) (n_a0 : fm_is M 92 92 a0 = true) (h : HX92_store_0 a0 a1 a2 a4 a5 M) : gd (FX92_store_0 fN a0 a1 a2 a4 a5 M) (GX92_store_0 a0 a1 a2 a4 a5 M) (OkZ M) := by
  delta FX92_store_0 BX92_store_0
  refine gd_c n_a0 ?_
  refine gd_b (gX92_finds _ _ _ _ _ _ h.1) (fun K0 => ?_)
  refine gd_fi (fun c1_0 => ?_) (fun c1_0 => ?_)
  · exact gd_z fz_0 ⟨K0.1.1, K0.1.2⟩ K0.2.1 rfl
  · have f2 := (ext_is K0.2.1 (Nat.zero_lt_succ _) n_a0)
    refine gd_c f2 ?_
    refine gd_b (gX92_watch _ _ _ _ (h.2.2 c1_0).1) (fun K3 => ?_)
    have f4 := (ext_is K3.2 (Nat.zero_lt_succ _) (ext_is K0.2.1 (Nat.zero_lt_succ _) n_a0))
    refine gd_c f4 ?_
    refine gd_b (gX92_put _ _ _ _ (h.2.2 c1_0).2.1) (fun K5 => ?_)
    have f6 := (ext_is K5.2 (Nat.zero_lt_succ _) (ext_is K3.2 (Nat.zero_lt_succ _) (ext_is K0.2.1 (Nat.zero_lt_succ _) n_a0)))
    refine gd_c f6 ?_
    have f8 := (fm_w (lo' := 910) (hi' := 990) rfl rfl (tN_303 K5.1.1 (ext_is K5.2 (Nat.zero_lt_succ _) (ext_is K3.2 (Nat.zero_lt_succ _) (ext_is K0.2.1 (Nat.zero_lt_succ _) n_a0)))))
    refine gd_c ⟨f8, (h.2.2 c1_0).2.2.1⟩ ?_
    refine gd_c (h.2.2 c1_0).2.2.2.1 ?_
    refine gd_b (gX98_finish _ _ _ _ ⟨K5.1.1, K5.1.2⟩ (h.2.2 c1_0).2.2.2.1 (h.2.2 c1_0).2.2.2.2.1) (fun K7 => ?_)
    exact gd_z fz_1 ⟨K7.1.1, K7.1.2⟩ (ext_tr K0.2.1 (ext_tr K3.2 (ext_tr K5.2 K7.2))) rfl
noncomputable def GX92_store (a0 : Nat) (a1 : Int32) (a2 : Int64) (a4 : Int32) (a5 : Int64) (M : FM) : Int32 × FM := GX92_store_0 a0 a1 a2 a4 a5 M
def HX92_store (a0 : Nat) (a1 : Int32) (a2 : Int64) (a4 : Int32) (a5 : Int64) (M : FM) : Prop := HX92_store_0 a0 a1 a2 a4 a5 M
theorem gX92_store (a0 : Nat) (a1 : Int32) (a2 : Int64) (a4 : Int32) (a5 : Int64) (M : FM) (T : Ty M) (n_a0 : fm_is M 92 92 a0 = true) (h : HX92_store a0 a1 a2 a4 a5 M) : gd (FX92_store fN a0 a1 a2 a4 a5 M) (GX92_store a0 a1 a2 a4 a5 M) (OkZ M) := gX92_store_0 a0 a1 a2 a4 a5 M T n_a0 h
noncomputable def GX93_signed_12 (s0 : Int64) (M : FM) : Int64 × FM :=
  (s0, M)
theorem gX93_signed_12 (s0 : Int64) (M : FM) (T : Ty M) : gd (FX93_signed_12 s0 M) (GX93_signed_12 s0 M) (OkR M) := by
  delta FX93_signed_12 BX93_signed_12
  exact ⟨rfl, ⟨T.1, T.2⟩, (ext_r _)⟩
noncomputable def GX93_signed_0 (a0 : Int64) (a2 : Int32) (M : FM) : Int64 × FM :=
  fi (a2 = (Int32.ofInt 4)) (
    GX93_signed_12 a0.toInt32.toInt64 M) (
    GX93_signed_12 a0 M)
theorem gX93_signed_0 (a0 : Int64) (a2 : Int32) (M : FM) (T : Ty M) : gd (FX93_signed_0 a0 a2 M) (GX93_signed_0 a0 a2 M) (OkR M) := by
  delta FX93_signed_0 BX93_signed_0
  refine gd_fi (fun c0_0 => ?_) (fun c0_0 => ?_)
  · exact gd_tR (ext_r _) (gX93_signed_12 _ _ ⟨T.1, T.2⟩  )
  · exact gd_tR (ext_r _) (gX93_signed_12 _ _ ⟨T.1, T.2⟩  )
noncomputable def GX93_signed (a0 : Int64) (a2 : Int32) (M : FM) : Int64 × FM := GX93_signed_0 a0 a2 M
theorem gX93_signed (a0 : Int64) (a2 : Int32) (M : FM) (T : Ty M) : gd (FX93_signed a0 a2 M) (GX93_signed a0 a2 M) (OkR M) := gX93_signed_0 a0 a2 M T 
noncomputable def GX93_isLess_50 (s0 : Int32) (M : FM) : Int32 × FM :=
  (s0, M)
theorem gX93_isLess_50 (s0 : Int32) (M : FM) (T : Ty M) (z_s0 : s0 = 0 ∨ s0 = 1) : gd (FX93_isLess_50 s0 M) (GX93_isLess_50 s0 M) (OkZ M) := by
  delta FX93_isLess_50 BX93_isLess_50
  exact gd_z z_s0 ⟨T.1, T.2⟩ (ext_r _) rfl
noncomputable def GX93_isLess_22 (a0 : Int64) (a2 : Int64) (s0 : Int32) (s1 : Int32) (M : FM) : Int32 × FM :=
  fi (s0 = s1) (
    fi (0 ≤ (lg_cmp a0 a2)) (
      GX93_isLess_50 (Int32.ofInt 0) M) (
      GX93_isLess_50 (Int32.ofInt 1) M)) (
    fi (0 ≤ (lg_cmp a2 (Int64.ofInt 0))) (
      GX93_isLess_50 (Int32.ofInt 0) M) (
      GX93_isLess_50 (Int32.ofInt 1) M))
theorem gX93_isLess_22 (a0 : Int64) (a2 : Int64) (s0 : Int32) (s1 : Int32) (M : FM) (T : Ty M) : gd (FX93_isLess_22 a0 a2 s0 s1 M) (GX93_isLess_22 a0 a2 s0 s1 M) (OkZ M) := by
  delta FX93_isLess_22 BX93_isLess_22
  refine gd_fi (fun c0_0 => ?_) (fun c0_0 => ?_)
  · refine gd_fi (fun c1_0 => ?_) (fun c1_0 => ?_)
    · exact gd_tZ (ext_r _) (gX93_isLess_50 _ _ ⟨T.1, T.2⟩ fz_0 )
    · exact gd_tZ (ext_r _) (gX93_isLess_50 _ _ ⟨T.1, T.2⟩ fz_1 )
  · refine gd_fi (fun c2_0 => ?_) (fun c2_0 => ?_)
    · exact gd_tZ (ext_r _) (gX93_isLess_50 _ _ ⟨T.1, T.2⟩ fz_0 )
    · exact gd_tZ (ext_r _) (gX93_isLess_50 _ _ ⟨T.1, T.2⟩ fz_1 )
noncomputable def GX93_isLess_11 (a0 : Int64) (a2 : Int64) (s0 : Int32) (M : FM) : Int32 × FM :=
  fi (0 ≤ (lg_cmp a2 (Int64.ofInt 0))) (
    GX93_isLess_22 a0 a2 s0 (Int32.ofInt 0) M) (
    GX93_isLess_22 a0 a2 s0 (Int32.ofInt 1) M)
theorem gX93_isLess_11 (a0 : Int64) (a2 : Int64) (s0 : Int32) (M : FM) (T : Ty M) : gd (FX93_isLess_11 a0 a2 s0 M) (GX93_isLess_11 a0 a2 s0 M) (OkZ M) := by
  delta FX93_isLess_11 BX93_isLess_11
  refine gd_fi (fun c0_0 => ?_) (fun c0_0 => ?_)
  · exact gd_tZ (ext_r _) (gX93_isLess_22 _ _ _ _ _ ⟨T.1, T.2⟩  )
  · exact gd_tZ (ext_r _) (gX93_isLess_22 _ _ _ _ _ ⟨T.1, T.2⟩  )
noncomputable def GX93_isLess_0 (a0 : Int64) (a2 : Int64) (M : FM) : Int32 × FM :=
  fi (0 ≤ (lg_cmp a0 (Int64.ofInt 0))) (
    GX93_isLess_11 a0 a2 (Int32.ofInt 0) M) (
    GX93_isLess_11 a0 a2 (Int32.ofInt 1) M)
theorem gX93_isLess_0 (a0 : Int64) (a2 : Int64) (M : FM) (T : Ty M) : gd (FX93_isLess_0 a0 a2 M) (GX93_isLess_0 a0 a2 M) (OkZ M) := by
  delta FX93_isLess_0 BX93_isLess_0
  refine gd_fi (fun c0_0 => ?_) (fun c0_0 => ?_)
  · exact gd_tZ (ext_r _) (gX93_isLess_11 _ _ _ _ ⟨T.1, T.2⟩  )
  · exact gd_tZ (ext_r _) (gX93_isLess_11 _ _ _ _ ⟨T.1, T.2⟩  )
noncomputable def GX93_isLess (a0 : Int64) (a2 : Int64) (M : FM) : Int32 × FM := GX93_isLess_0 a0 a2 M
theorem gX93_isLess (a0 : Int64) (a2 : Int64) (M : FM) (T : Ty M) : gd (FX93_isLess a0 a2 M) (GX93_isLess a0 a2 M) (OkZ M) := gX93_isLess_0 a0 a2 M T 
noncomputable def GX93_changed_185 (s0 : Int64) (M : FM) : Int64 × FM :=
  (s0, M)
theorem gX93_changed_185 (s0 : Int64) (M : FM) (T : Ty M) : gd (FX93_changed_185 s0 M) (GX93_changed_185 s0 M) (OkR M) := by
  delta FX93_changed_185 BX93_changed_185
  exact ⟨rfl, ⟨T.1, T.2⟩, (ext_r _)⟩
noncomputable def GX93_changed_172 (a1 : Int64) (a3 : Int64) (M : FM) : Int64 × FM :=
  let r1 : Int32 × FM := GX93_isLess a1 a3 M
  fi (r1.1 = 0) (
    GX93_changed_185 a1 r1.2) (
    GX93_changed_185 a3 r1.2)
theorem gX93_changed_172 (a1 : Int64) (a3 : Int64) (M : FM) (T : Ty M) : gd (FX93_changed_172 a1 a3 M) (GX93_changed_172 a1 a3 M) (OkR M) := by
  delta FX93_changed_172 BX93_changed_172
  refine gd_b (gX93_isLess _ _ _ ⟨T.1, T.2⟩  ) (fun K0 => ?_)
  refine gd_fi (fun c1_0 => ?_) (fun c1_0 => ?_)
  · exact gd_tR K0.2.1 (gX93_changed_185 _ _ ⟨K0.1.1, K0.1.2⟩  )
  · exact gd_tR K0.2.1 (gX93_changed_185 _ _ ⟨K0.1.1, K0.1.2⟩  )
noncomputable def GX93_changed_171 (s0 : Int64) (M : FM) : Int64 × FM :=
  (s0, M)
theorem gX93_changed_171 (s0 : Int64) (M : FM) (T : Ty M) : gd (FX93_changed_171 s0 M) (GX93_changed_171 s0 M) (OkR M) := by
  delta FX93_changed_171 BX93_changed_171
  exact ⟨rfl, ⟨T.1, T.2⟩, (ext_r _)⟩
noncomputable def GX93_changed_157 (s0 : Int64) (M : FM) : Int64 × FM :=
  (s0, M)
theorem gX93_changed_157 (s0 : Int64) (M : FM) (T : Ty M) : gd (FX93_changed_157 s0 M) (GX93_changed_157 s0 M) (OkR M) := by
  delta FX93_changed_157 BX93_changed_157
  exact ⟨rfl, ⟨T.1, T.2⟩, (ext_r _)⟩
noncomputable def GX93_changed_145 (s0 : Int64) (M : FM) : Int64 × FM :=
  (s0, M)
theorem gX93_changed_145 (s0 : Int64) (M : FM) (T : Ty M) : gd (FX93_changed_145 s0 M) (GX93_changed_145 s0 M) (OkR M) := by
  delta FX93_changed_145 BX93_changed_145
  exact ⟨rfl, ⟨T.1, T.2⟩, (ext_r _)⟩
noncomputable def GX93_changed_0 (a0 : Int32) (a1 : Int64) (a3 : Int64) (M : FM) : Int64 × FM :=
  fi (a0 = (Int32.ofInt 0)) (
    ((a1 + a3), M)) (
    fi (a0 = (Int32.ofInt 1)) (
      (a3, M)) (
      fi (a0 = (Int32.ofInt 2)) (
        GX93_changed_172 a1 a3 M) (
        fi (a0 = (Int32.ofInt 3)) (
          GX93_changed_172 a1 a3 M) (
          fi (a0 = (Int32.ofInt 4)) (
            ((a1 ^^^ a3), M)) (
            fi (a0 = (Int32.ofInt 5)) (
              GX93_changed_172 a1 a3 M) (
              fi (a0 = (Int32.ofInt 6)) (
                GX93_changed_172 a1 a3 M) (
                fi (a0 = (Int32.ofInt 7)) (
                  GX93_changed_172 a1 a3 M) (
                  fi (a0 = (Int32.ofInt 8)) (
                    ((a1 ||| a3), M)) (
                    fi (a0 = (Int32.ofInt 9)) (
                      GX93_changed_172 a1 a3 M) (
                      fi (a0 = (Int32.ofInt 10)) (
                        GX93_changed_172 a1 a3 M) (
                        fi (a0 = (Int32.ofInt 11)) (
                          GX93_changed_172 a1 a3 M) (
                          fi (a0 = (Int32.ofInt 12)) (
                            ((a1 &&& a3), M)) (
                            fi (a0 = (Int32.ofInt 13)) (
                              GX93_changed_172 a1 a3 M) (
                              fi (a0 = (Int32.ofInt 14)) (
                                GX93_changed_172 a1 a3 M) (
                                fi (a0 = (Int32.ofInt 15)) (
                                  GX93_changed_172 a1 a3 M) (
                                  fi (a0 = (Int32.ofInt 16)) (
                                    fi (0 ≤ (lg_cmp a1 a3)) (
                                      GX93_changed_145 a3 M) (
                                      GX93_changed_145 a1 M)) (
                                    fi (a0 = (Int32.ofInt 17)) (
                                      GX93_changed_172 a1 a3 M) (
                                      fi (a0 = (Int32.ofInt 18)) (
                                        GX93_changed_172 a1 a3 M) (
                                        fi (a0 = (Int32.ofInt 19)) (
                                          GX93_changed_172 a1 a3 M) (
                                          fi (a0 = (Int32.ofInt 20)) (
                                            fi (0 ≤ (lg_cmp a1 a3)) (
                                              GX93_changed_157 a1 M) (
                                              GX93_changed_157 a3 M)) (
                                            fi (a0 = (Int32.ofInt 21)) (
                                              GX93_changed_172 a1 a3 M) (
                                              fi (a0 = (Int32.ofInt 22)) (
                                                GX93_changed_172 a1 a3 M) (
                                                fi (a0 = (Int32.ofInt 23)) (
                                                  GX93_changed_172 a1 a3 M) (
                                                  fi (a0 = (Int32.ofInt 24)) (
                                                    let r1 : Int32 × FM := GX93_isLess a1 a3 M
                                                    fi (r1.1 = 0) (
                                                      GX93_changed_171 a3 r1.2) (
                                                      GX93_changed_171 a1 r1.2)) (
                                                    GX93_changed_172 a1 a3 M)))))))))))))))))))))))))
theorem gX93_changed_0 (a0 : Int32) (a1 : Int64) (a3 : Int64) (M : FM) (T : Ty M) : gd (FX93_changed_0 a0 a1 a3 M) (GX93_changed_0 a0 a1 a3 M) (OkR M) := by
  delta FX93_changed_0 BX93_changed_0
  refine gd_fi (fun c0_0 => ?_) (fun c0_0 => ?_)
  · exact ⟨rfl, ⟨T.1, T.2⟩, (ext_r _)⟩
  · refine gd_fi (fun c1_1 => ?_) (fun c1_1 => ?_)
    · exact ⟨rfl, ⟨T.1, T.2⟩, (ext_r _)⟩
    · refine gd_fi (fun c2_2 => ?_) (fun c2_2 => ?_)
      · exact gd_tR (ext_r _) (gX93_changed_172 _ _ _ ⟨T.1, T.2⟩  )
      · refine gd_fi (fun c3_3 => ?_) (fun c3_3 => ?_)
        · exact gd_tR (ext_r _) (gX93_changed_172 _ _ _ ⟨T.1, T.2⟩  )
        · refine gd_fi (fun c4_4 => ?_) (fun c4_4 => ?_)
          · exact ⟨rfl, ⟨T.1, T.2⟩, (ext_r _)⟩
          · refine gd_fi (fun c5_5 => ?_) (fun c5_5 => ?_)
            · exact gd_tR (ext_r _) (gX93_changed_172 _ _ _ ⟨T.1, T.2⟩  )
            · refine gd_fi (fun c6_6 => ?_) (fun c6_6 => ?_)
              · exact gd_tR (ext_r _) (gX93_changed_172 _ _ _ ⟨T.1, T.2⟩  )
              · refine gd_fi (fun c7_7 => ?_) (fun c7_7 => ?_)
                · exact gd_tR (ext_r _) (gX93_changed_172 _ _ _ ⟨T.1, T.2⟩  )
                · refine gd_fi (fun c8_8 => ?_) (fun c8_8 => ?_)
                  · exact ⟨rfl, ⟨T.1, T.2⟩, (ext_r _)⟩
                  · refine gd_fi (fun c9_9 => ?_) (fun c9_9 => ?_)
                    · exact gd_tR (ext_r _) (gX93_changed_172 _ _ _ ⟨T.1, T.2⟩  )
                    · refine gd_fi (fun c10_10 => ?_) (fun c10_10 => ?_)
                      · exact gd_tR (ext_r _) (gX93_changed_172 _ _ _ ⟨T.1, T.2⟩  )
                      · refine gd_fi (fun c11_11 => ?_) (fun c11_11 => ?_)
                        · exact gd_tR (ext_r _) (gX93_changed_172 _ _ _ ⟨T.1, T.2⟩  )
                        · refine gd_fi (fun c12_12 => ?_) (fun c12_12 => ?_)
                          · exact ⟨rfl, ⟨T.1, T.2⟩, (ext_r _)⟩
                          · refine gd_fi (fun c13_13 => ?_) (fun c13_13 => ?_)
                            · exact gd_tR (ext_r _) (gX93_changed_172 _ _ _ ⟨T.1, T.2⟩  )
                            · refine gd_fi (fun c14_14 => ?_) (fun c14_14 => ?_)
                              · exact gd_tR (ext_r _) (gX93_changed_172 _ _ _ ⟨T.1, T.2⟩  )
                              · refine gd_fi (fun c15_15 => ?_) (fun c15_15 => ?_)
                                · exact gd_tR (ext_r _) (gX93_changed_172 _ _ _ ⟨T.1, T.2⟩  )
                                · refine gd_fi (fun c16_16 => ?_) (fun c16_16 => ?_)
                                  · refine gd_fi (fun c17_0 => ?_) (fun c17_0 => ?_)
                                    · exact gd_tR (ext_r _) (gX93_changed_145 _ _ ⟨T.1, T.2⟩  )
                                    · exact gd_tR (ext_r _) (gX93_changed_145 _ _ ⟨T.1, T.2⟩  )
                                  · refine gd_fi (fun c18_17 => ?_) (fun c18_17 => ?_)
                                    · exact gd_tR (ext_r _) (gX93_changed_172 _ _ _ ⟨T.1, T.2⟩  )
                                    · refine gd_fi (fun c19_18 => ?_) (fun c19_18 => ?_)
                                      · exact gd_tR (ext_r _) (gX93_changed_172 _ _ _ ⟨T.1, T.2⟩  )
                                      · refine gd_fi (fun c20_19 => ?_) (fun c20_19 => ?_)
                                        · exact gd_tR (ext_r _) (gX93_changed_172 _ _ _ ⟨T.1, T.2⟩  )
                                        · refine gd_fi (fun c21_20 => ?_) (fun c21_20 => ?_)
                                          · refine gd_fi (fun c22_0 => ?_) (fun c22_0 => ?_)
                                            · exact gd_tR (ext_r _) (gX93_changed_157 _ _ ⟨T.1, T.2⟩  )
                                            · exact gd_tR (ext_r _) (gX93_changed_157 _ _ ⟨T.1, T.2⟩  )
                                          · refine gd_fi (fun c23_21 => ?_) (fun c23_21 => ?_)
                                            · exact gd_tR (ext_r _) (gX93_changed_172 _ _ _ ⟨T.1, T.2⟩  )
                                            · refine gd_fi (fun c24_22 => ?_) (fun c24_22 => ?_)
                                              · exact gd_tR (ext_r _) (gX93_changed_172 _ _ _ ⟨T.1, T.2⟩  )
                                              · refine gd_fi (fun c25_23 => ?_) (fun c25_23 => ?_)
                                                · exact gd_tR (ext_r _) (gX93_changed_172 _ _ _ ⟨T.1, T.2⟩  )
                                                · refine gd_fi (fun c26_24 => ?_) (fun c26_24 => ?_)
                                                  · refine gd_b (gX93_isLess _ _ _ ⟨T.1, T.2⟩  ) (fun K27 => ?_)
                                                    refine gd_fi (fun c28_0 => ?_) (fun c28_0 => ?_)
                                                    · exact gd_tR K27.2.1 (gX93_changed_171 _ _ ⟨K27.1.1, K27.1.2⟩  )
                                                    · exact gd_tR K27.2.1 (gX93_changed_171 _ _ ⟨K27.1.1, K27.1.2⟩  )
                                                  · exact gd_tR (ext_r _) (gX93_changed_172 _ _ _ ⟨T.1, T.2⟩  )
noncomputable def GX93_changed (a0 : Int32) (a1 : Int64) (a3 : Int64) (M : FM) : Int64 × FM := GX93_changed_0 a0 a1 a3 M
theorem gX93_changed (a0 : Int32) (a1 : Int64) (a3 : Int64) (M : FM) (T : Ty M) : gd (FX93_changed a0 a1 a3 M) (GX93_changed a0 a1 a3 M) (OkR M) := gX93_changed_0 a0 a1 a3 M T 
noncomputable def GX93_atomic_187 (s0 : Int64) (M : FM) : Int64 × FM :=
  (s0, M)
theorem gX93_atomic_187 (s0 : Int64) (M : FM) (T : Ty M) : gd (FX93_atomic_187 fN s0 M) (GX93_atomic_187 s0 M) (OkR M) := by
  delta FX93_atomic_187 BX93_atomic_187
  exact ⟨rfl, ⟨T.1, T.2⟩, (ext_r _)⟩
noncomputable def GX93_atomic_177 (a10 : Int32) (M : FM) : Int64 × FM :=
  fi (a10 = 0) (
    GX93_atomic_187 (Int64.ofInt 1) M) (
    GX93_atomic_187 (Int64.ofInt 0) M)
theorem gX93_atomic_177 (a10 : Int32) (M : FM) (T : Ty M) : gd (FX93_atomic_177 fN a10 M) (GX93_atomic_177 a10 M) (OkR M) := by
  delta FX93_atomic_177 BX93_atomic_177
  refine gd_fi (fun c0_0 => ?_) (fun c0_0 => ?_)
  · exact gd_tR (ext_r _) (gX93_atomic_187 _ _ ⟨T.1, T.2⟩  )
  · exact gd_tR (ext_r _) (gX93_atomic_187 _ _ ⟨T.1, T.2⟩  )
noncomputable def GX93_atomic_165 (a0 : Nat) (a3 : Int64) (a5 : Int32) (a6 : Int64) (a10 : Int32) (s0 : Nat) (s1 : Int64) (M : FM) : Int64 × FM :=
  let M1 : FM := fm_sL M 393 s0 0 s1
  let M2 : FM := GX93_keep a0 a3 a5 a6 M1
  GX93_atomic_177 a10 M2
def HX93_atomic_165 (a0 : Nat) (a3 : Int64) (a5 : Int32) (a6 : Int64) (a10 : Int32) (s0 : Nat) (s1 : Int64) (M : FM) : Prop := let M1 : FM := fm_sL M 393 s0 0 s1; (HX93_keep a0 a3 a5 a6 M1 ∧ True)
theorem gX93_atomic_165 (a0 : Nat) (a3 : Int64) (a5 : Int32) (a6 : Int64) (a10 : Int32) (s0 : Nat) (s1 : Int64) (M : FM) (T : Ty M) (n_s0 : fm_is M 98 98 s0 = true) (n_a0 : fm_is M 98 98 a0 = true) (h : HX93_atomic_165 a0 a3 a5 a6 a10 s0 s1 M) : gd (FX93_atomic_165 fN a0 a3 a5 a6 a10 s0 s1 M) (GX93_atomic_165 a0 a3 a5 a6 a10 s0 s1 M) (OkR M) := by
  delta FX93_atomic_165 BX93_atomic_165
  refine gd_c n_s0 ?_
  refine gd_c n_a0 ?_
  refine gd_b (gX93_keep _ _ _ _ _ h.1) (fun K0 => ?_)
  exact gd_tR (ext_dL K0.2) (gX93_atomic_177 _ _ ⟨K0.1.1, K0.1.2⟩  )
noncomputable def GX93_atomic_113 (a0 : Nat) (a1 : Int32) (a3 : Int64) (a5 : Int32) (a6 : Int64) (s0 : Int32) (M : FM) : Int64 × FM :=
  let x1 : Nat := (M.2.2 389 a0 0)
  let M2 : FM := fm_sL M 3 x1 a1.toNatClampNeg (Int64.ofInt 0)
  fi (s0 = 0) (
    GX93_atomic_177 s0 M2) (
    let x3 : Int32 := ((a3 - (Int64.ofInt 2147483648)) / (Int64.ofInt 8)).toInt32
    let x4 : Nat := (M2.2.2 391 a0 0)
    let x5 : Nat := (M2.2.2 392 a0 0)
    fi ((M2.1 3 x4 x3.toNatClampNeg) = (M2.1 3 x5 a1.toNatClampNeg)) (
      GX93_atomic_165 a0 a3 a5 a6 s0 a0 (M2.2.1 393 a0 0) M2) (
      GX93_atomic_165 a0 a3 a5 a6 s0 a0 ((M2.2.1 393 a0 0) + (Int64.ofInt 1)) M2))
def HX93_atomic_113 (a0 : Nat) (a1 : Int32) (a3 : Int64) (a5 : Int32) (a6 : Int64) (s0 : Int32) (M : FM) : Prop := let x1 : Nat := (M.2.2 389 a0 0); (fm_in M x1 a1 = true ∧ let M2 : FM := fm_sL M 3 x1 a1.toNatClampNeg (Int64.ofInt 0); ((s0 = 0 → True) ∧ (¬ (s0 = 0) → let x3 : Int32 := ((a3 - (Int64.ofInt 2147483648)) / (Int64.ofInt 8)).toInt32; let x4 : Nat := (M2.2.2 391 a0 0); (fm_in M2 x4 x3 = true ∧ let x5 : Nat := (M2.2.2 392 a0 0); (fm_in M2 x5 a1 = true ∧ (((M2.1 3 x4 x3.toNatClampNeg) = (M2.1 3 x5 a1.toNatClampNeg) → HX93_atomic_165 a0 a3 a5 a6 s0 a0 (M2.2.1 393 a0 0) M2) ∧ (¬ ((M2.1 3 x4 x3.toNatClampNeg) = (M2.1 3 x5 a1.toNatClampNeg)) → HX93_atomic_165 a0 a3 a5 a6 s0 a0 ((M2.2.1 393 a0 0) + (Int64.ofInt 1)) M2)))))))
theorem gX93_atomic_113 (a0 : Nat) (a1 : Int32) (a3 : Int64) (a5 : Int32) (a6 : Int64) (s0 : Int32) (M : FM) (T : Ty M) (n_a0 : fm_is M 98 98 a0 = true) (h : HX93_atomic_113 a0 a1 a3 a5 a6 s0 M) : gd (FX93_atomic_113 fN a0 a1 a3 a5 a6 s0 M) (GX93_atomic_113 a0 a1 a3 a5 a6 s0 M) (OkR M) := by
  delta FX93_atomic_113 BX93_atomic_113
  refine gd_c n_a0 ?_
  have f0 := (tN_389 T.1 n_a0)
  refine gd_c ⟨f0, h.1⟩ ?_
  refine gd_fi (fun c1_0 => ?_) (fun c1_0 => ?_)
  · exact gd_tR (ext_dL (ext_r _)) (gX93_atomic_177 _ _ ⟨T.1, T.2⟩  )
  · refine gd_c n_a0 ?_
    refine gd_n (by decide) ?_
    have f4 := (tN_391 T.1 n_a0)
    refine gd_c ⟨f4, (h.2.2 c1_0).1⟩ ?_
    refine gd_c n_a0 ?_
    have f3 := (tN_392 T.1 n_a0)
    refine gd_c ⟨f3, (h.2.2 c1_0).2.1⟩ ?_
    refine gd_fi (fun c2_0 => ?_) (fun c2_0 => ?_)
    · refine gd_c n_a0 ?_
      exact gd_tR (ext_dL (ext_r _)) (gX93_atomic_165 _ _ _ _ _ _ _ _ ⟨T.1, T.2⟩ n_a0 n_a0 ((h.2.2 c1_0).2.2.1 c2_0))
    · refine gd_c n_a0 ?_
      exact gd_tR (ext_dL (ext_r _)) (gX93_atomic_165 _ _ _ _ _ _ _ _ ⟨T.1, T.2⟩ n_a0 n_a0 ((h.2.2 c1_0).2.2.2 c2_0))
noncomputable def GX93_atomic_112 (a0 : Nat) (a1 : Int32) (a3 : Int64) (a5 : Int32) (a6 : Int64) (M : FM) : Int64 × FM :=
  GX93_atomic_113 a0 a1 a3 a5 a6 (Int32.ofInt 0) M
def HX93_atomic_112 (a0 : Nat) (a1 : Int32) (a3 : Int64) (a5 : Int32) (a6 : Int64) (M : FM) : Prop := HX93_atomic_113 a0 a1 a3 a5 a6 (Int32.ofInt 0) M
theorem gX93_atomic_112 (a0 : Nat) (a1 : Int32) (a3 : Int64) (a5 : Int32) (a6 : Int64) (M : FM) (T : Ty M) (n_a0 : fm_is M 98 98 a0 = true) (h : HX93_atomic_112 a0 a1 a3 a5 a6 M) : gd (FX93_atomic_112 fN a0 a1 a3 a5 a6 M) (GX93_atomic_112 a0 a1 a3 a5 a6 M) (OkR M) := by
  delta FX93_atomic_112 BX93_atomic_112
  exact gd_tR (ext_r _) (gX93_atomic_113 _ _ _ _ _ _ _ ⟨T.1, T.2⟩ n_a0 h)
noncomputable def GX93_atomic_0 (a0 : Nat) (a1 : Int32) (a2 : Int32) (a3 : Int64) (a5 : Int32) (a6 : Int64) (M : FM) : Int64 × FM :=
  let r1 : Int64 × FM := GX93_number a0 a3 a5 M
  let r2 : Int64 × FM := GX93_signed r1.1 a5 r1.2
  fi (a2 = (Int32.ofInt 2)) (
    let x3 : Nat := (r2.2.2.2 389 a0 0)
    let M4 : FM := fm_sL r2.2 3 x3 a1.toNatClampNeg a3
    let x5 : Nat := (M4.2.2 390 a0 0)
    let M6 : FM := fm_sI M4 3 x5 a1.toNatClampNeg a5
    let x7 : Int32 := ((a3 - (Int64.ofInt 2147483648)) / (Int64.ofInt 8)).toInt32
    let x8 : Nat := (M6.2.2 391 a0 0)
    let x9 : Nat := (M6.2.2 392 a0 0)
    let M10 : FM := fm_sI M6 3 x9 a1.toNatClampNeg (M6.1 3 x8 x7.toNatClampNeg)
    (r2.1, M10)) (
    fi (a2 = (Int32.ofInt 3)) (
      let x11 : Nat := (r2.2.2.2 389 a0 0)
      fi ((lg_cmp (r2.2.2.1 3 x11 a1.toNatClampNeg) a3) = 0) (
        let x12 : Nat := (r2.2.2.2 390 a0 0)
        fi ((r2.2.1 3 x12 a1.toNatClampNeg) = a5) (
          GX93_atomic_113 a0 a1 a3 a5 a6 (Int32.ofInt 1) r2.2) (
          GX93_atomic_112 a0 a1 a3 a5 a6 r2.2)) (
        GX93_atomic_112 a0 a1 a3 a5 a6 r2.2)) (
      let r13 : Int64 × FM := GX93_signed a6 a5 r2.2
      let r14 : Int64 × FM := GX93_changed a2 r2.1 r13.1 r13.2
      let M15 : FM := GX93_keep a0 a3 a5 r14.1 r14.2
      (r2.1, M15)))
def HX93_atomic_0 (a0 : Nat) (a1 : Int32) (a2 : Int32) (a3 : Int64) (a5 : Int32) (a6 : Int64) (M : FM) : Prop := (HX93_number a0 a3 a5 M ∧ let r1 : Int64 × FM := GX93_number a0 a3 a5 M; let r2 : Int64 × FM := GX93_signed r1.1 a5 r1.2; ((a2 = (Int32.ofInt 2) → let x3 : Nat := (r2.2.2.2 389 a0 0); (fm_in r2.2 x3 a1 = true ∧ let M4 : FM := fm_sL r2.2 3 x3 a1.toNatClampNeg a3; let x5 : Nat := (M4.2.2 390 a0 0); (fm_in M4 x5 a1 = true ∧ let M6 : FM := fm_sI M4 3 x5 a1.toNatClampNeg a5; let x7 : Int32 := ((a3 - (Int64.ofInt 2147483648)) / (Int64.ofInt 8)).toInt32; let x8 : Nat := (M6.2.2 391 a0 0); (fm_in M6 x8 x7 = true ∧ let x9 : Nat := (M6.2.2 392 a0 0); (fm_in M6 x9 a1 = true ∧ True))))) ∧ (¬ (a2 = (Int32.ofInt 2)) → ((a2 = (Int32.ofInt 3) → let x11 : Nat := (r2.2.2.2 389 a0 0); (fm_in r2.2 x11 a1 = true ∧ (((lg_cmp (r2.2.2.1 3 x11 a1.toNatClampNeg) a3) = 0 → let x12 : Nat := (r2.2.2.2 390 a0 0); (fm_in r2.2 x12 a1 = true ∧ (((r2.2.1 3 x12 a1.toNatClampNeg) = a5 → HX93_atomic_113 a0 a1 a3 a5 a6 (Int32.ofInt 1) r2.2) ∧ (¬ ((r2.2.1 3 x12 a1.toNatClampNeg) = a5) → HX93_atomic_112 a0 a1 a3 a5 a6 r2.2)))) ∧ (¬ ((lg_cmp (r2.2.2.1 3 x11 a1.toNatClampNeg) a3) = 0) → HX93_atomic_112 a0 a1 a3 a5 a6 r2.2)))) ∧ (¬ (a2 = (Int32.ofInt 3)) → let r13 : Int64 × FM := GX93_signed a6 a5 r2.2; let r14 : Int64 × FM := GX93_changed a2 r2.1 r13.1 r13.2; (HX93_keep a0 a3 a5 r14.1 r14.2 ∧ True))))))
theorem gX93_atomic_0 (a0 : Nat) (a1 : Int32) (a2 : Int32) (a3 : Int64) (a5 : Int32) (a6 : Int64) (M : FM) (T : Ty M) (n_a0 : fm_is M 98 98 a0 = true) (h : HX93_atomic_0 a0 a1 a2 a3 a5 a6 M) : gd (FX93_atomic_0 fN a0 a1 a2 a3 a5 a6 M) (GX93_atomic_0 a0 a1 a2 a3 a5 a6 M) (OkR M) := by
  delta FX93_atomic_0 BX93_atomic_0
  refine gd_c n_a0 ?_
  refine gd_b (gX93_number _ _ _ _ h.1) (fun K0 => ?_)
  refine gd_b (gX93_signed _ _ _ ⟨K0.1.1, K0.1.2⟩  ) (fun K1 => ?_)
  refine gd_fi (fun c2_0 => ?_) (fun c2_0 => ?_)
  · have f3 := (ext_is K1.2 (Nat.zero_lt_succ _) (ext_is K0.2 (Nat.zero_lt_succ _) n_a0))
    refine gd_c f3 ?_
    have f4 := (tN_389 K1.1.1 (ext_is K1.2 (Nat.zero_lt_succ _) (ext_is K0.2 (Nat.zero_lt_succ _) n_a0)))
    refine gd_c ⟨f4, (h.2.1 c2_0).1⟩ ?_
    have f5 := (ext_is K1.2 (Nat.zero_lt_succ _) (ext_is K0.2 (Nat.zero_lt_succ _) n_a0))
    refine gd_c f5 ?_
    have f6 := (tN_390 K1.1.1 (ext_is K1.2 (Nat.zero_lt_succ _) (ext_is K0.2 (Nat.zero_lt_succ _) n_a0)))
    refine gd_c ⟨f6, (h.2.1 c2_0).2.1⟩ ?_
    have f7 := (ext_is K1.2 (Nat.zero_lt_succ _) (ext_is K0.2 (Nat.zero_lt_succ _) n_a0))
    refine gd_c f7 ?_
    have f8 := (ext_is K1.2 (Nat.zero_lt_succ _) (ext_is K0.2 (Nat.zero_lt_succ _) n_a0))
    refine gd_c f8 ?_
    refine gd_n (by decide) ?_
    have f10 := (tN_391 K1.1.1 (ext_is K1.2 (Nat.zero_lt_succ _) (ext_is K0.2 (Nat.zero_lt_succ _) n_a0)))
    refine gd_c ⟨f10, (h.2.1 c2_0).2.2.1⟩ ?_
    have f9 := (tN_392 K1.1.1 (ext_is K1.2 (Nat.zero_lt_succ _) (ext_is K0.2 (Nat.zero_lt_succ _) n_a0)))
    refine gd_c ⟨f9, (h.2.1 c2_0).2.2.2.1⟩ ?_
    exact ⟨rfl, ⟨K1.1.1, (tyb_s3 (t := 901) rfl (tyb_s3 (t := 901) rfl K1.1.2 f6) f9)⟩, (ext_tr K0.2 (ext_tr K1.2 (ext_dL (ext_dI (ext_dI (ext_r _))))))⟩
  · refine gd_fi (fun c11_0 => ?_) (fun c11_0 => ?_)
    · have f12 := (ext_is K1.2 (Nat.zero_lt_succ _) (ext_is K0.2 (Nat.zero_lt_succ _) n_a0))
      refine gd_c f12 ?_
      have f21 := (tN_389 K1.1.1 (ext_is K1.2 (Nat.zero_lt_succ _) (ext_is K0.2 (Nat.zero_lt_succ _) n_a0)))
      have f22 := ((h.2.2 c2_0).1 c11_0).1
      refine gd_c ⟨f21, f22⟩ ?_
      refine gd_fi (fun c13_0 => ?_) (fun c13_0 => ?_)
      · have f14 := (ext_is K1.2 (Nat.zero_lt_succ _) (ext_is K0.2 (Nat.zero_lt_succ _) n_a0))
        refine gd_c f14 ?_
        have f18 := (tN_390 K1.1.1 (ext_is K1.2 (Nat.zero_lt_succ _) (ext_is K0.2 (Nat.zero_lt_succ _) n_a0)))
        have f19 := (((h.2.2 c2_0).1 c11_0).2.1 c13_0).1
        refine gd_c ⟨f18, f19⟩ ?_
        refine gd_fi (fun c15_0 => ?_) (fun c15_0 => ?_)
        · have f16 := (ext_is K1.2 (Nat.zero_lt_succ _) (ext_is K0.2 (Nat.zero_lt_succ _) n_a0))
          exact gd_tR (ext_tr K0.2 K1.2) (gX93_atomic_113 _ _ _ _ _ _ _ ⟨K1.1.1, K1.1.2⟩ f16 ((((h.2.2 c2_0).1 c11_0).2.1 c13_0).2.1 c15_0))
        · have f17 := (ext_is K1.2 (Nat.zero_lt_succ _) (ext_is K0.2 (Nat.zero_lt_succ _) n_a0))
          exact gd_tR (ext_tr K0.2 K1.2) (gX93_atomic_112 _ _ _ _ _ _ ⟨K1.1.1, K1.1.2⟩ f17 ((((h.2.2 c2_0).1 c11_0).2.1 c13_0).2.2 c15_0))
      · have f20 := (ext_is K1.2 (Nat.zero_lt_succ _) (ext_is K0.2 (Nat.zero_lt_succ _) n_a0))
        exact gd_tR (ext_tr K0.2 K1.2) (gX93_atomic_112 _ _ _ _ _ _ ⟨K1.1.1, K1.1.2⟩ f20 (((h.2.2 c2_0).1 c11_0).2.2 c13_0))
    · refine gd_b (gX93_signed _ _ _ ⟨K1.1.1, K1.1.2⟩  ) (fun K23 => ?_)
      refine gd_b (gX93_changed _ _ _ _ ⟨K23.1.1, K23.1.2⟩  ) (fun K24 => ?_)
      have f25 := (ext_is K24.2 (Nat.zero_lt_succ _) (ext_is K23.2 (Nat.zero_lt_succ _) (ext_is K1.2 (Nat.zero_lt_succ _) (ext_is K0.2 (Nat.zero_lt_succ _) n_a0))))
      refine gd_c f25 ?_
      refine gd_b (gX93_keep _ _ _ _ _ ((h.2.2 c2_0).2 c11_0).1) (fun K26 => ?_)
      exact ⟨rfl, ⟨K26.1.1, K26.1.2⟩, (ext_tr K0.2 (ext_tr K1.2 (ext_tr K23.2 (ext_tr K24.2 K26.2))))⟩
noncomputable def GX93_atomic (a0 : Nat) (a1 : Int32) (a2 : Int32) (a3 : Int64) (a5 : Int32) (a6 : Int64) (M : FM) : Int64 × FM := GX93_atomic_0 a0 a1 a2 a3 a5 a6 M
def HX93_atomic (a0 : Nat) (a1 : Int32) (a2 : Int32) (a3 : Int64) (a5 : Int32) (a6 : Int64) (M : FM) : Prop := HX93_atomic_0 a0 a1 a2 a3 a5 a6 M
theorem gX93_atomic (a0 : Nat) (a1 : Int32) (a2 : Int32) (a3 : Int64) (a5 : Int32) (a6 : Int64) (M : FM) (T : Ty M) (n_a0 : fm_is M 98 98 a0 = true) (h : HX93_atomic a0 a1 a2 a3 a5 a6 M) : gd (FX93_atomic fN a0 a1 a2 a3 a5 a6 M) (GX93_atomic a0 a1 a2 a3 a5 a6 M) (OkR M) := gX93_atomic_0 a0 a1 a2 a3 a5 a6 M T n_a0 h
noncomputable def GX92_atomic_135 (a0 : Nat) (a1 : Int32) (a8 : Int64) (M : FM) : Int32 × FM :=
  let x1 : Nat := (M.2.2 303 a0 0)
  let x2 : Nat := (M.2.2 3 x1 a1.toNatClampNeg)
  let r3 : Int32 × FM := GX98_finish x2 (Int32.ofInt 1) a8 M
  ((Int32.ofInt 1), r3.2)
def HX92_atomic_135 (a0 : Nat) (a1 : Int32) (a8 : Int64) (M : FM) : Prop := let x1 : Nat := (M.2.2 303 a0 0); (fm_in M x1 a1 = true ∧ let x2 : Nat := (M.2.2 3 x1 a1.toNatClampNeg); (fm_is M 94 94 x2 = true ∧ (HX98_finish x2 (Int32.ofInt 1) a8 M ∧ True)))
theorem gX92_atomic_135 (a0 : Nat) (a1 : Int32) (a8 : Int64) (M : FM) (T : Ty M) (n_a0 : fm_is M 92 92 a0 = true) (h : HX92_atomic_135 a0 a1 a8 M) : gd (FX92_atomic_135 fN a0 a1 a8 M) (GX92_atomic_135 a0 a1 a8 M) (OkZ M) := by
  delta FX92_atomic_135 BX92_atomic_135
  refine gd_c n_a0 ?_
  have f1 := (fm_w (lo' := 910) (hi' := 990) rfl rfl (tN_303 T.1 n_a0))
  refine gd_c ⟨f1, h.1⟩ ?_
  refine gd_c h.2.1 ?_
  refine gd_b (gX98_finish _ _ _ _ ⟨T.1, T.2⟩ h.2.1 h.2.2.1) (fun K0 => ?_)
  exact gd_z fz_1 ⟨K0.1.1, K0.1.2⟩ K0.2 rfl
noncomputable def GX92_atomic_128 (a0 : Nat) (a1 : Int32) (a4 : Int32) (a8 : Int64) (M : FM) : Int32 × FM :=
  let M1 : FM := GX92_watch a0 a1 a4 M
  GX92_atomic_135 a0 a1 a8 M1
def HX92_atomic_128 (a0 : Nat) (a1 : Int32) (a4 : Int32) (a8 : Int64) (M : FM) : Prop := (HX92_watch a0 a1 a4 M ∧ let M1 : FM := GX92_watch a0 a1 a4 M; HX92_atomic_135 a0 a1 a8 M1)
theorem gX92_atomic_128 (a0 : Nat) (a1 : Int32) (a4 : Int32) (a8 : Int64) (M : FM) (T : Ty M) (n_a0 : fm_is M 92 92 a0 = true) (h : HX92_atomic_128 a0 a1 a4 a8 M) : gd (FX92_atomic_128 fN a0 a1 a4 a8 M) (GX92_atomic_128 a0 a1 a4 a8 M) (OkZ M) := by
  delta FX92_atomic_128 BX92_atomic_128
  refine gd_c n_a0 ?_
  refine gd_b (gX92_watch _ _ _ _ h.1) (fun K0 => ?_)
  have f1 := (ext_is K0.2 (Nat.zero_lt_succ _) n_a0)
  exact gd_tZ K0.2 (gX92_atomic_135 _ _ _ _ ⟨K0.1.1, K0.1.2⟩ f1 h.2)
noncomputable def GX92_atomic_82 (a2 : Int64) (s0 : Nat) (s1 : Int32) (M : FM) : Int32 × FM :=
  let r1 : Int32 × FM := GX92_fail s0 s1 a2 M
  (r1.1, r1.2)
theorem gX92_atomic_82 (a2 : Int64) (s0 : Nat) (s1 : Int32) (M : FM) (T : Ty M) (n_s0 : fm_is M 92 92 s0 = true) : gd (FX92_atomic_82 fN a2 s0 s1 M) (GX92_atomic_82 a2 s0 s1 M) (OkZ M) := by
  delta FX92_atomic_82 BX92_atomic_82
  refine gd_c n_s0 ?_
  refine gd_b (gX92_fail _ _ _ _ ⟨T.1, T.2⟩ n_s0 ) (fun K0 => ?_)
  exact gd_z K0.2.2 ⟨K0.1.1, K0.1.2⟩ K0.2.1 rfl
noncomputable def GX92_atomic_46 (a0 : Nat) (a1 : Int32) (a2 : Int64) (a4 : Int32) (a5 : Int32) (a6 : Int64) (s0 : Nat) (s1 : Int32) (s2 : Int64) (s3 : Int32) (s4 : Int32) (M : FM) : Int32 × FM :=
  let r1 : Int32 × FM := GX92_finds s0 s1 s2 s3 s4 M
  fi (r1.1 = 0) (
    ((Int32.ofInt 0), r1.2)) (
    let x2 : Nat := (r1.2.2.2 323 a0 0)
    let r3 : Int32 × FM := GX93_areBytes (r1.2.2.1 3 x2 (Int32.ofInt 0).toNatClampNeg) a4.toInt64 r1.2
    fi (r3.1 = 0) (
      fi (a5 = (Int32.ofInt 2)) (
        GX92_atomic_82 a2 a0 (Int32.ofInt 5) r3.2) (
        GX92_atomic_82 a2 a0 (Int32.ofInt 7) r3.2)) (
      let x4 : Nat := (r3.2.2.2 323 a0 0)
      let x5 : Nat := (r3.2.2.2 298 a0 0)
      let r6 : Int64 × FM := GX93_atomic x5 a1 a5 (r3.2.2.1 3 x4 (Int32.ofInt 0).toNatClampNeg) a4 a6 r3.2
      fi (a5 = (Int32.ofInt 2)) (
        GX92_atomic_135 a0 a1 r6.1 r6.2) (
        fi (a5 = (Int32.ofInt 3)) (
          fi ((lg_cmp r6.1 (Int64.ofInt 0)) = 0) (
            GX92_atomic_128 a0 a1 a4 r6.1 r6.2) (
            GX92_atomic_135 a0 a1 r6.1 r6.2)) (
          GX92_atomic_128 a0 a1 a4 r6.1 r6.2))))
def HX92_atomic_46 (a0 : Nat) (a1 : Int32) (a2 : Int64) (a4 : Int32) (a5 : Int32) (a6 : Int64) (s0 : Nat) (s1 : Int32) (s2 : Int64) (s3 : Int32) (s4 : Int32) (M : FM) : Prop := (HX92_finds s0 s1 s2 s3 s4 M ∧ let r1 : Int32 × FM := GX92_finds s0 s1 s2 s3 s4 M; ((r1.1 = 0 → True) ∧ (¬ (r1.1 = 0) → let x2 : Nat := (r1.2.2.2 323 a0 0); let r3 : Int32 × FM := GX93_areBytes (r1.2.2.1 3 x2 (Int32.ofInt 0).toNatClampNeg) a4.toInt64 r1.2; ((r3.1 = 0 → True) ∧ (¬ (r3.1 = 0) → let x4 : Nat := (r3.2.2.2 323 a0 0); let x5 : Nat := (r3.2.2.2 298 a0 0); (HX93_atomic x5 a1 a5 (r3.2.2.1 3 x4 (Int32.ofInt 0).toNatClampNeg) a4 a6 r3.2 ∧ let r6 : Int64 × FM := GX93_atomic x5 a1 a5 (r3.2.2.1 3 x4 (Int32.ofInt 0).toNatClampNeg) a4 a6 r3.2; ((a5 = (Int32.ofInt 2) → HX92_atomic_135 a0 a1 r6.1 r6.2) ∧ (¬ (a5 = (Int32.ofInt 2)) → ((a5 = (Int32.ofInt 3) → (((lg_cmp r6.1 (Int64.ofInt 0)) = 0 → HX92_atomic_128 a0 a1 a4 r6.1 r6.2) ∧ (¬ ((lg_cmp r6.1 (Int64.ofInt 0)) = 0) → HX92_atomic_135 a0 a1 r6.1 r6.2))) ∧ (¬ (a5 = (Int32.ofInt 3)) → HX92_atomic_128 a0 a1 a4 r6.1 r6.2))))))))))
theorem gX92_atomic_46 (a0 : Nat) (a1 : Int32) (a2 : Int64) (a4 : Int32) (a5 : Int32) (a6 : Int64) (s0 : Nat) (s1 : Int32) (s2 : Int64) (s3 : Int32) (s4 : Int32) (M : FM) (T : Ty M) (n_s0 : fm_is M 92 92 s0 = true) (n_a0 : fm_is M 92 92 a0 = true) (h : HX92_atomic_46 a0 a1 a2 a4 a5 a6 s0 s1 s2 s3 s4 M) : gd (FX92_atomic_46 fN a0 a1 a2 a4 a5 a6 s0 s1 s2 s3 s4 M) (GX92_atomic_46 a0 a1 a2 a4 a5 a6 s0 s1 s2 s3 s4 M) (OkZ M) := by
  delta FX92_atomic_46 BX92_atomic_46
  refine gd_c n_s0 ?_
  refine gd_b (gX92_finds _ _ _ _ _ _ h.1) (fun K0 => ?_)
  refine gd_fi (fun c1_0 => ?_) (fun c1_0 => ?_)
  · exact gd_z fz_0 ⟨K0.1.1, K0.1.2⟩ K0.2.1 rfl
  · have f2 := (ext_is K0.2.1 (Nat.zero_lt_succ _) n_a0)
    refine gd_c f2 ?_
    have f22 := (tN_323 K0.1.1 (ext_is K0.2.1 (Nat.zero_lt_succ _) n_a0))
    have f23 := (fm_inl (i := (Int32.ofInt 0)) (tL_323 K0.1.1 (ext_is K0.2.1 (Nat.zero_lt_succ _) n_a0)) (by decide))
    refine gd_c ⟨f22, f23⟩ ?_
    refine gd_b (gX93_areBytes _ _ _ ⟨K0.1.1, K0.1.2⟩  ) (fun K3 => ?_)
    refine gd_fi (fun c4_0 => ?_) (fun c4_0 => ?_)
    · refine gd_fi (fun c5_0 => ?_) (fun c5_0 => ?_)
      · have f6 := (ext_is K3.2.1 (Nat.zero_lt_succ _) (ext_is K0.2.1 (Nat.zero_lt_succ _) n_a0))
        exact gd_tZ (ext_tr K0.2.1 K3.2.1) (gX92_atomic_82 _ _ _ _ ⟨K3.1.1, K3.1.2⟩ f6 )
      · have f7 := (ext_is K3.2.1 (Nat.zero_lt_succ _) (ext_is K0.2.1 (Nat.zero_lt_succ _) n_a0))
        exact gd_tZ (ext_tr K0.2.1 K3.2.1) (gX92_atomic_82 _ _ _ _ ⟨K3.1.1, K3.1.2⟩ f7 )
    · have f8 := (ext_is K3.2.1 (Nat.zero_lt_succ _) (ext_is K0.2.1 (Nat.zero_lt_succ _) n_a0))
      refine gd_c f8 ?_
      have f9 := (ext_is K3.2.1 (Nat.zero_lt_succ _) (ext_is K0.2.1 (Nat.zero_lt_succ _) n_a0))
      refine gd_c f9 ?_
      have f20 := (tN_323 K3.1.1 (ext_is K3.2.1 (Nat.zero_lt_succ _) (ext_is K0.2.1 (Nat.zero_lt_succ _) n_a0)))
      have f21 := (fm_inl (i := (Int32.ofInt 0)) (tL_323 K3.1.1 (ext_is K3.2.1 (Nat.zero_lt_succ _) (ext_is K0.2.1 (Nat.zero_lt_succ _) n_a0))) (by decide))
      refine gd_c ⟨f20, f21⟩ ?_
      have f10 := (tN_298 K3.1.1 (ext_is K3.2.1 (Nat.zero_lt_succ _) (ext_is K0.2.1 (Nat.zero_lt_succ _) n_a0)))
      refine gd_c f10 ?_
      have f19 := (tN_298 K3.1.1 (ext_is K3.2.1 (Nat.zero_lt_succ _) (ext_is K0.2.1 (Nat.zero_lt_succ _) n_a0)))
      refine gd_b (gX93_atomic _ _ _ _ _ _ _ ⟨K3.1.1, K3.1.2⟩ f19 ((h.2.2 c1_0).2 c4_0).1) (fun K11 => ?_)
      refine gd_fi (fun c12_0 => ?_) (fun c12_0 => ?_)
      · have f13 := (ext_is K11.2 (Nat.zero_lt_succ _) (ext_is K3.2.1 (Nat.zero_lt_succ _) (ext_is K0.2.1 (Nat.zero_lt_succ _) n_a0)))
        exact gd_tZ (ext_tr K0.2.1 (ext_tr K3.2.1 K11.2)) (gX92_atomic_135 _ _ _ _ ⟨K11.1.1, K11.1.2⟩ f13 (((h.2.2 c1_0).2 c4_0).2.1 c12_0))
      · refine gd_fi (fun c14_0 => ?_) (fun c14_0 => ?_)
        · refine gd_fi (fun c15_0 => ?_) (fun c15_0 => ?_)
          · have f16 := (ext_is K11.2 (Nat.zero_lt_succ _) (ext_is K3.2.1 (Nat.zero_lt_succ _) (ext_is K0.2.1 (Nat.zero_lt_succ _) n_a0)))
            exact gd_tZ (ext_tr K0.2.1 (ext_tr K3.2.1 K11.2)) (gX92_atomic_128 _ _ _ _ _ ⟨K11.1.1, K11.1.2⟩ f16 (((((h.2.2 c1_0).2 c4_0).2.2 c12_0).1 c14_0).1 c15_0))
          · have f17 := (ext_is K11.2 (Nat.zero_lt_succ _) (ext_is K3.2.1 (Nat.zero_lt_succ _) (ext_is K0.2.1 (Nat.zero_lt_succ _) n_a0)))
            exact gd_tZ (ext_tr K0.2.1 (ext_tr K3.2.1 K11.2)) (gX92_atomic_135 _ _ _ _ ⟨K11.1.1, K11.1.2⟩ f17 (((((h.2.2 c1_0).2 c4_0).2.2 c12_0).1 c14_0).2 c15_0))
        · have f18 := (ext_is K11.2 (Nat.zero_lt_succ _) (ext_is K3.2.1 (Nat.zero_lt_succ _) (ext_is K0.2.1 (Nat.zero_lt_succ _) n_a0)))
          exact gd_tZ (ext_tr K0.2.1 (ext_tr K3.2.1 K11.2)) (gX92_atomic_128 _ _ _ _ _ ⟨K11.1.1, K11.1.2⟩ f18 ((((h.2.2 c1_0).2 c4_0).2.2 c12_0).2 c14_0))
noncomputable def GX92_atomic_25 (a2 : Int64) (s0 : Nat) (s1 : Int32) (M : FM) : Int32 × FM :=
  let r1 : Int32 × FM := GX92_fail s0 s1 a2 M
  (r1.1, r1.2)
theorem gX92_atomic_25 (a2 : Int64) (s0 : Nat) (s1 : Int32) (M : FM) (T : Ty M) (n_s0 : fm_is M 92 92 s0 = true) : gd (FX92_atomic_25 fN a2 s0 s1 M) (GX92_atomic_25 a2 s0 s1 M) (OkZ M) := by
  delta FX92_atomic_25 BX92_atomic_25
  refine gd_c n_s0 ?_
  refine gd_b (gX92_fail _ _ _ _ ⟨T.1, T.2⟩ n_s0 ) (fun K0 => ?_)
  exact gd_z K0.2.2 ⟨K0.1.1, K0.1.2⟩ K0.2.1 rfl
noncomputable def GX92_atomic_0 (a0 : Nat) (a1 : Int32) (a2 : Int64) (a4 : Int32) (a5 : Int32) (a6 : Int64) (M : FM) : Int32 × FM :=
  fi ((lg_cmp (a2 &&& (a4.toInt64 - (Int64.ofInt 1))) (Int64.ofInt 0)) = 0) (
    fi (a5 = (Int32.ofInt 2)) (
      GX92_atomic_46 a0 a1 a2 a4 a5 a6 a0 a1 a2 a4 (Int32.ofInt 1) M) (
      GX92_atomic_46 a0 a1 a2 a4 a5 a6 a0 a1 a2 a4 (Int32.ofInt 2) M)) (
    fi (a5 = (Int32.ofInt 2)) (
      GX92_atomic_25 a2 a0 (Int32.ofInt 4) M) (
      GX92_atomic_25 a2 a0 (Int32.ofInt 6) M))
def HX92_atomic_0 (a0 : Nat) (a1 : Int32) (a2 : Int64) (a4 : Int32) (a5 : Int32) (a6 : Int64) (M : FM) : Prop := (((lg_cmp (a2 &&& (a4.toInt64 - (Int64.ofInt 1))) (Int64.ofInt 0)) = 0 → ((a5 = (Int32.ofInt 2) → HX92_atomic_46 a0 a1 a2 a4 a5 a6 a0 a1 a2 a4 (Int32.ofInt 1) M) ∧ (¬ (a5 = (Int32.ofInt 2)) → HX92_atomic_46 a0 a1 a2 a4 a5 a6 a0 a1 a2 a4 (Int32.ofInt 2) M))) ∧ (¬ ((lg_cmp (a2 &&& (a4.toInt64 - (Int64.ofInt 1))) (Int64.ofInt 0)) = 0) → True))
theorem gX92_atomic_0 (a0 : Nat) (a1 : Int32) (a2 : Int64) (a4 : Int32) (a5 : Int32) (a6 : Int64) (M : FM) (T : Ty M) (n_a0 : fm_is M 92 92 a0 = true) (h : HX92_atomic_0 a0 a1 a2 a4 a5 a6 M) : gd (FX92_atomic_0 fN a0 a1 a2 a4 a5 a6 M) (GX92_atomic_0 a0 a1 a2 a4 a5 a6 M) (OkZ M) := by
  delta FX92_atomic_0 BX92_atomic_0
  refine gd_fi (fun c0_0 => ?_) (fun c0_0 => ?_)
  · refine gd_fi (fun c1_0 => ?_) (fun c1_0 => ?_)
    · exact gd_tZ (ext_r _) (gX92_atomic_46 _ _ _ _ _ _ _ _ _ _ _ _ ⟨T.1, T.2⟩ n_a0 n_a0 ((h.1 c0_0).1 c1_0))
    · exact gd_tZ (ext_r _) (gX92_atomic_46 _ _ _ _ _ _ _ _ _ _ _ _ ⟨T.1, T.2⟩ n_a0 n_a0 ((h.1 c0_0).2 c1_0))
  · refine gd_fi (fun c2_0 => ?_) (fun c2_0 => ?_)
    · exact gd_tZ (ext_r _) (gX92_atomic_25 _ _ _ _ ⟨T.1, T.2⟩ n_a0 )
    · exact gd_tZ (ext_r _) (gX92_atomic_25 _ _ _ _ ⟨T.1, T.2⟩ n_a0 )
noncomputable def GX92_atomic (a0 : Nat) (a1 : Int32) (a2 : Int64) (a4 : Int32) (a5 : Int32) (a6 : Int64) (M : FM) : Int32 × FM := GX92_atomic_0 a0 a1 a2 a4 a5 a6 M
def HX92_atomic (a0 : Nat) (a1 : Int32) (a2 : Int64) (a4 : Int32) (a5 : Int32) (a6 : Int64) (M : FM) : Prop := HX92_atomic_0 a0 a1 a2 a4 a5 a6 M
theorem gX92_atomic (a0 : Nat) (a1 : Int32) (a2 : Int64) (a4 : Int32) (a5 : Int32) (a6 : Int64) (M : FM) (T : Ty M) (n_a0 : fm_is M 92 92 a0 = true) (h : HX92_atomic a0 a1 a2 a4 a5 a6 M) : gd (FX92_atomic fN a0 a1 a2 a4 a5 a6 M) (GX92_atomic a0 a1 a2 a4 a5 a6 M) (OkZ M) := gX92_atomic_0 a0 a1 a2 a4 a5 a6 M T n_a0 h
noncomputable def GX100_floats_17 (s0 : Int32) (M : FM) : Int32 × FM :=
  (s0, M)
theorem gX100_floats_17 (s0 : Int32) (M : FM) (T : Ty M) (z_s0 : s0 = 0 ∨ s0 = 1) : gd (FX100_floats_17 s0 M) (GX100_floats_17 s0 M) (OkZ M) := by
  delta FX100_floats_17 BX100_floats_17
  exact gd_z z_s0 ⟨T.1, T.2⟩ (ext_r _) rfl
noncomputable def GX100_floats_0 (a0 : Nat) (M : FM) : Int32 × FM :=
  let M1 : FM := fm_sI M 358 a0 0 (Int32.ofInt 0)
  let r2 : Int32 × FM := GX100_floating a0 M1
  fi (r2.1 ≤ 0) (
    GX100_floats_17 (Int32.ofInt 0) r2.2) (
    GX100_floats_17 (Int32.ofInt 1) r2.2)
theorem gX100_floats_0 (a0 : Nat) (M : FM) (T : Ty M) (n_a0 : fm_is M 95 95 a0 = true) : gd (FX100_floats_0 a0 M) (GX100_floats_0 a0 M) (OkZ M) := by
  delta FX100_floats_0 BX100_floats_0
  refine gd_c n_a0 ?_
  refine gd_c n_a0 ?_
  refine gd_b (gX100_floating _ _ ⟨T.1, (tyb_sI (f := 358) rfl T.2)⟩ n_a0 ) (fun K0 => ?_)
  refine gd_fi (fun c1_0 => ?_) (fun c1_0 => ?_)
  · exact gd_tZ (ext_dI K0.2) (gX100_floats_17 _ _ ⟨K0.1.1, K0.1.2⟩ fz_0 )
  · exact gd_tZ (ext_dI K0.2) (gX100_floats_17 _ _ ⟨K0.1.1, K0.1.2⟩ fz_1 )
noncomputable def GX100_floats (a0 : Nat) (M : FM) : Int32 × FM := GX100_floats_0 a0 M
theorem gX100_floats (a0 : Nat) (M : FM) (T : Ty M) (n_a0 : fm_is M 95 95 a0 = true) : gd (FX100_floats a0 M) (GX100_floats a0 M) (OkZ M) := gX100_floats_0 a0 M T n_a0 
noncomputable def GX99_isNo_31 (s0 : Int32) (M : FM) : Int32 × FM :=
  (s0, M)
theorem gX99_isNo_31 (s0 : Int32) (M : FM) (T : Ty M) (z_s0 : s0 = 0 ∨ s0 = 1) : gd (FX99_isNo_31 s0 M) (GX99_isNo_31 s0 M) (OkZ M) := by
  delta FX99_isNo_31 BX99_isNo_31
  exact gd_z z_s0 ⟨T.1, T.2⟩ (ext_r _) rfl
noncomputable def GX99_isNo_16 (a0 : Nat) (s0 : Nat) (s1 : Int32) (M : FM) : Int32 × FM :=
  let M1 : FM := fm_sI M 366 s0 0 s1
  fi ((M1.1 366 a0 0) ≤ 0) (
    GX99_isNo_31 (Int32.ofInt 0) M1) (
    GX99_isNo_31 (Int32.ofInt 1) M1)
theorem gX99_isNo_16 (a0 : Nat) (s0 : Nat) (s1 : Int32) (M : FM) (T : Ty M) (n_s0 : fm_is M 96 96 s0 = true) (n_a0 : fm_is M 96 96 a0 = true) : gd (FX99_isNo_16 a0 s0 s1 M) (GX99_isNo_16 a0 s0 s1 M) (OkZ M) := by
  delta FX99_isNo_16 BX99_isNo_16
  refine gd_c n_s0 ?_
  refine gd_c n_a0 ?_
  refine gd_fi (fun c0_0 => ?_) (fun c0_0 => ?_)
  · exact gd_tZ (ext_dI (ext_r _)) (gX99_isNo_31 _ _ ⟨T.1, (tyb_sI (f := 366) rfl T.2)⟩ fz_0 )
  · exact gd_tZ (ext_dI (ext_r _)) (gX99_isNo_31 _ _ ⟨T.1, (tyb_sI (f := 366) rfl T.2)⟩ fz_1 )
noncomputable def GX99_isNo_11 (a0 : Nat) (s0 : Nat) (M : FM) : Int32 × FM :=
  GX99_isNo_16 a0 s0 (Int32.ofInt 1) M
theorem gX99_isNo_11 (a0 : Nat) (s0 : Nat) (M : FM) (T : Ty M) (n_s0 : fm_is M 96 96 s0 = true) (n_a0 : fm_is M 96 96 a0 = true) : gd (FX99_isNo_11 a0 s0 M) (GX99_isNo_11 a0 s0 M) (OkZ M) := by
  delta FX99_isNo_11 BX99_isNo_11
  exact gd_tZ (ext_r _) (gX99_isNo_16 _ _ _ _ ⟨T.1, T.2⟩ n_s0 n_a0 )
noncomputable def GX99_isNo_0 (a0 : Nat) (a1 : Int32) (M : FM) : Int32 × FM :=
  fi (a1 < 0) (
    GX99_isNo_11 a0 a0 M) (
    fi (a1 ≤ (Int32.ofInt 31)) (
      GX99_isNo_16 a0 a0 (Int32.ofInt 0) M) (
      GX99_isNo_11 a0 a0 M))
theorem gX99_isNo_0 (a0 : Nat) (a1 : Int32) (M : FM) (T : Ty M) (n_a0 : fm_is M 96 96 a0 = true) : gd (FX99_isNo_0 a0 a1 M) (GX99_isNo_0 a0 a1 M) (OkZ M) := by
  delta FX99_isNo_0 BX99_isNo_0
  refine gd_fi (fun c0_0 => ?_) (fun c0_0 => ?_)
  · exact gd_tZ (ext_r _) (gX99_isNo_11 _ _ _ ⟨T.1, T.2⟩ n_a0 n_a0 )
  · refine gd_fi (fun c1_0 => ?_) (fun c1_0 => ?_)
    · exact gd_tZ (ext_r _) (gX99_isNo_16 _ _ _ _ ⟨T.1, T.2⟩ n_a0 n_a0 )
    · exact gd_tZ (ext_r _) (gX99_isNo_11 _ _ _ ⟨T.1, T.2⟩ n_a0 n_a0 )
noncomputable def GX99_isNo (a0 : Nat) (a1 : Int32) (M : FM) : Int32 × FM := GX99_isNo_0 a0 a1 M
theorem gX99_isNo (a0 : Nat) (a1 : Int32) (M : FM) (T : Ty M) (n_a0 : fm_is M 96 96 a0 = true) : gd (FX99_isNo a0 a1 M) (GX99_isNo a0 a1 M) (OkZ M) := gX99_isNo_0 a0 a1 M T n_a0 
noncomputable def GX99_get_18 (s0 : Int64) (M : FM) : Int64 × FM :=
  (s0, M)
theorem gX99_get_18 (s0 : Int64) (M : FM) (T : Ty M) : gd (FX99_get_18 s0 M) (GX99_get_18 s0 M) (OkR M) := by
  delta FX99_get_18 BX99_get_18
  exact ⟨rfl, ⟨T.1, T.2⟩, (ext_r _)⟩
noncomputable def GX99_get_0 (a0 : Nat) (a1 : Int32) (M : FM) : Int64 × FM :=
  let r1 : Int32 × FM := GX99_isNo a0 a1 M
  fi (r1.1 = 0) (
    let x2 : Nat := (r1.2.2.2 367 a0 0)
    GX99_get_18 (r1.2.2.1 3 x2 a1.toNatClampNeg) r1.2) (
    GX99_get_18 (Int64.ofInt 0) r1.2)
def HX99_get_0 (a0 : Nat) (a1 : Int32) (M : FM) : Prop := let r1 : Int32 × FM := GX99_isNo a0 a1 M; ((r1.1 = 0 → let x2 : Nat := (r1.2.2.2 367 a0 0); (fm_in r1.2 x2 a1 = true ∧ True)) ∧ (¬ (r1.1 = 0) → True))
theorem gX99_get_0 (a0 : Nat) (a1 : Int32) (M : FM) (T : Ty M) (n_a0 : fm_is M 96 96 a0 = true) (h : HX99_get_0 a0 a1 M) : gd (FX99_get_0 a0 a1 M) (GX99_get_0 a0 a1 M) (OkR M) := by
  delta FX99_get_0 BX99_get_0
  refine gd_c n_a0 ?_
  refine gd_b (gX99_isNo _ _ _ ⟨T.1, T.2⟩ n_a0 ) (fun K0 => ?_)
  refine gd_fi (fun c1_0 => ?_) (fun c1_0 => ?_)
  · have f2 := (ext_is K0.2.1 (Nat.zero_lt_succ _) n_a0)
    refine gd_c f2 ?_
    have f3 := (tN_367 K0.1.1 (ext_is K0.2.1 (Nat.zero_lt_succ _) n_a0))
    refine gd_c ⟨f3, (h.1 c1_0).1⟩ ?_
    exact gd_tR K0.2.1 (gX99_get_18 _ _ ⟨K0.1.1, K0.1.2⟩  )
  · exact gd_tR K0.2.1 (gX99_get_18 _ _ ⟨K0.1.1, K0.1.2⟩  )
noncomputable def GX99_get (a0 : Nat) (a1 : Int32) (M : FM) : Int64 × FM := GX99_get_0 a0 a1 M
def HX99_get (a0 : Nat) (a1 : Int32) (M : FM) : Prop := HX99_get_0 a0 a1 M
theorem gX99_get (a0 : Nat) (a1 : Int32) (M : FM) (T : Ty M) (n_a0 : fm_is M 96 96 a0 = true) (h : HX99_get a0 a1 M) : gd (FX99_get a0 a1 M) (GX99_get a0 a1 M) (OkR M) := gX99_get_0 a0 a1 M T n_a0 h
noncomputable def GX96_readTimer_119 (s0 : Int64) (M : FM) : Int64 × FM :=
  (s0, M)
theorem gX96_readTimer_119 (s0 : Int64) (M : FM) (T : Ty M) : gd (FX96_readTimer_119 s0 M) (GX96_readTimer_119 s0 M) (OkR M) := by
  delta FX96_readTimer_119 BX96_readTimer_119
  exact ⟨rfl, ⟨T.1, T.2⟩, (ext_r _)⟩
noncomputable def GX96_readTimer_114 (s0 : Int64) (s1 : Int32) (M : FM) : Int64 × FM :=
  GX96_readTimer_119 ((s0 >>> (s1.toInt64 &&& 63)) &&& (Int64.ofInt 4294967295)) M
theorem gX96_readTimer_114 (s0 : Int64) (s1 : Int32) (M : FM) (T : Ty M) : gd (FX96_readTimer_114 s0 s1 M) (GX96_readTimer_114 s0 s1 M) (OkR M) := by
  delta FX96_readTimer_114 BX96_readTimer_114
  exact gd_tR (ext_r _) (gX96_readTimer_119 _ _ ⟨T.1, T.2⟩  )
noncomputable def GX96_readTimer_75 (M : FM) : Int64 × FM :=
  ((Int64.ofInt 0), M)
theorem gX96_readTimer_75 (M : FM) (T : Ty M) : gd (FX96_readTimer_75 M) (GX96_readTimer_75 M) (OkR M) := by
  delta FX96_readTimer_75 BX96_readTimer_75
  exact ⟨rfl, ⟨T.1, T.2⟩, (ext_r _)⟩
noncomputable def GX96_readTimer_49 (a0 : Nat) (a1 : Int64) (a3 : Int32) (M : FM) : Int64 × FM :=
  let r1 : Int32 × FM := GX96_eightAt a0 a1 M
  fi (r1.1 < 0) (
    GX96_readTimer_75 r1.2) (
    let x2 : Int64 := a3.toInt64
    fi ((lg_cmp (a1 - a1 / x2 * x2) (Int64.ofInt 0)) = 0) (
      fi ((Int32.ofInt 4) ≤ a3) (
        fi (a3 = (Int32.ofInt 8)) (
          let r3 : Int64 × FM := GX96_eight a0 r1.1 r1.2
          GX96_readTimer_119 r3.1 r3.2) (
          let r4 : Int64 × FM := GX96_eight a0 r1.1 r1.2
          fi ((lg_cmp (a1 - a1 / (Int64.ofInt 8) * (Int64.ofInt 8)) (Int64.ofInt 0)) = 0) (
            GX96_readTimer_114 r4.1 (Int32.ofInt 0) r4.2) (
            GX96_readTimer_114 r4.1 (Int32.ofInt 32) r4.2))) (
        GX96_readTimer_75 r1.2)) (
      GX96_readTimer_75 r1.2))
def HX96_readTimer_49 (a0 : Nat) (a1 : Int64) (a3 : Int32) (M : FM) : Prop := let r1 : Int32 × FM := GX96_eightAt a0 a1 M; ((r1.1 < 0 → True) ∧ (¬ (r1.1 < 0) → let x2 : Int64 := a3.toInt64; (¬ x2 = 0 ∧ (((lg_cmp (a1 - a1 / x2 * x2) (Int64.ofInt 0)) = 0 → (((Int32.ofInt 4) ≤ a3 → ((a3 = (Int32.ofInt 8) → (HX96_eight a0 r1.1 r1.2 ∧ True)) ∧ (¬ (a3 = (Int32.ofInt 8)) → (HX96_eight a0 r1.1 r1.2 ∧ True)))) ∧ (¬ ((Int32.ofInt 4) ≤ a3) → True))) ∧ (¬ ((lg_cmp (a1 - a1 / x2 * x2) (Int64.ofInt 0)) = 0) → True)))))
theorem gX96_readTimer_49 (a0 : Nat) (a1 : Int64) (a3 : Int32) (M : FM) (T : Ty M) (n_a0 : fm_is M 99 99 a0 = true) (h : HX96_readTimer_49 a0 a1 a3 M) : gd (FX96_readTimer_49 a0 a1 a3 M) (GX96_readTimer_49 a0 a1 a3 M) (OkR M) := by
  delta FX96_readTimer_49 BX96_readTimer_49
  refine gd_c n_a0 ?_
  refine gd_b (gX96_eightAt _ _ _ ⟨T.1, T.2⟩ n_a0 ) (fun K0 => ?_)
  refine gd_fi (fun c1_0 => ?_) (fun c1_0 => ?_)
  · exact gd_tR K0.2 (gX96_readTimer_75  _ ⟨K0.1.1, K0.1.2⟩  )
  · refine gd_n (h.2 c1_0).1 ?_
    refine gd_fi (fun c2_0 => ?_) (fun c2_0 => ?_)
    · refine gd_fi (fun c3_0 => ?_) (fun c3_0 => ?_)
      · refine gd_fi (fun c4_0 => ?_) (fun c4_0 => ?_)
        · have f5 := (ext_is K0.2 (Nat.zero_lt_succ _) n_a0)
          refine gd_c f5 ?_
          have f7 := (ext_is K0.2 (Nat.zero_lt_succ _) n_a0)
          refine gd_b (gX96_eight _ _ _ ⟨K0.1.1, K0.1.2⟩ f7 ((((h.2 c1_0).2.1 c2_0).1 c3_0).1 c4_0).1) (fun K6 => ?_)
          exact gd_tR (ext_tr K0.2 K6.2) (gX96_readTimer_119 _ _ ⟨K6.1.1, K6.1.2⟩  )
        · have f8 := (ext_is K0.2 (Nat.zero_lt_succ _) n_a0)
          refine gd_c f8 ?_
          have f11 := (ext_is K0.2 (Nat.zero_lt_succ _) n_a0)
          refine gd_b (gX96_eight _ _ _ ⟨K0.1.1, K0.1.2⟩ f11 ((((h.2 c1_0).2.1 c2_0).1 c3_0).2 c4_0).1) (fun K9 => ?_)
          refine gd_n (by decide) ?_
          refine gd_fi (fun c10_0 => ?_) (fun c10_0 => ?_)
          · exact gd_tR (ext_tr K0.2 K9.2) (gX96_readTimer_114 _ _ _ ⟨K9.1.1, K9.1.2⟩  )
          · exact gd_tR (ext_tr K0.2 K9.2) (gX96_readTimer_114 _ _ _ ⟨K9.1.1, K9.1.2⟩  )
      · exact gd_tR K0.2 (gX96_readTimer_75  _ ⟨K0.1.1, K0.1.2⟩  )
    · exact gd_tR K0.2 (gX96_readTimer_75  _ ⟨K0.1.1, K0.1.2⟩  )
noncomputable def GX96_readTimer_48 (s0 : Int64) (M : FM) : Int64 × FM :=
  (s0, M)
theorem gX96_readTimer_48 (s0 : Int64) (M : FM) (T : Ty M) : gd (FX96_readTimer_48 s0 M) (GX96_readTimer_48 s0 M) (OkR M) := by
  delta FX96_readTimer_48 BX96_readTimer_48
  exact ⟨rfl, ⟨T.1, T.2⟩, (ext_r _)⟩
noncomputable def GX96_readTimer_0 (a0 : Nat) (a1 : Int64) (a3 : Int32) (M : FM) : Int64 × FM :=
  fi (a3 = (Int32.ofInt 4)) (
    fi (0 ≤ (lg_cmp a1 ((Int64.ofInt 4) * (M.1 395 a0 0).toInt64))) (
      GX96_readTimer_49 a0 a1 a3 M) (
      fi ((lg_cmp (a1 - a1 / (Int64.ofInt 4) * (Int64.ofInt 4)) (Int64.ofInt 0)) = 0) (
        let x1 : Int32 := (a1 / (Int64.ofInt 4)).toInt32
        let x2 : Nat := (M.2.2 396 a0 0)
        fi ((M.1 3 x2 x1.toNatClampNeg) = 0) (
          GX96_readTimer_48 (Int64.ofInt 0) M) (
          GX96_readTimer_48 (Int64.ofInt 1) M)) (
        GX96_readTimer_49 a0 a1 a3 M))) (
    GX96_readTimer_49 a0 a1 a3 M)
def HX96_readTimer_0 (a0 : Nat) (a1 : Int64) (a3 : Int32) (M : FM) : Prop := ((a3 = (Int32.ofInt 4) → ((0 ≤ (lg_cmp a1 ((Int64.ofInt 4) * (M.1 395 a0 0).toInt64)) → HX96_readTimer_49 a0 a1 a3 M) ∧ (¬ (0 ≤ (lg_cmp a1 ((Int64.ofInt 4) * (M.1 395 a0 0).toInt64))) → (((lg_cmp (a1 - a1 / (Int64.ofInt 4) * (Int64.ofInt 4)) (Int64.ofInt 0)) = 0 → let x1 : Int32 := (a1 / (Int64.ofInt 4)).toInt32; let x2 : Nat := (M.2.2 396 a0 0); (fm_in M x2 x1 = true ∧ True)) ∧ (¬ ((lg_cmp (a1 - a1 / (Int64.ofInt 4) * (Int64.ofInt 4)) (Int64.ofInt 0)) = 0) → HX96_readTimer_49 a0 a1 a3 M))))) ∧ (¬ (a3 = (Int32.ofInt 4)) → HX96_readTimer_49 a0 a1 a3 M))
theorem gX96_readTimer_0 (a0 : Nat) (a1 : Int64) (a3 : Int32) (M : FM) (T : Ty M) (n_a0 : fm_is M 99 99 a0 = true) (h : HX96_readTimer_0 a0 a1 a3 M) : gd (FX96_readTimer_0 a0 a1 a3 M) (GX96_readTimer_0 a0 a1 a3 M) (OkR M) := by
  delta FX96_readTimer_0 BX96_readTimer_0
  refine gd_fi (fun c0_0 => ?_) (fun c0_0 => ?_)
  · refine gd_c n_a0 ?_
    refine gd_fi (fun c1_0 => ?_) (fun c1_0 => ?_)
    · exact gd_tR (ext_r _) (gX96_readTimer_49 _ _ _ _ ⟨T.1, T.2⟩ n_a0 ((h.1 c0_0).1 c1_0))
    · refine gd_n (by decide) ?_
      refine gd_fi (fun c2_0 => ?_) (fun c2_0 => ?_)
      · refine gd_c n_a0 ?_
        refine gd_n (by decide) ?_
        have f4 := (tN_396 T.1 n_a0)
        have f5 := (((h.1 c0_0).2 c1_0).1 c2_0).1
        refine gd_c ⟨f4, f5⟩ ?_
        refine gd_fi (fun c3_0 => ?_) (fun c3_0 => ?_)
        · exact gd_tR (ext_r _) (gX96_readTimer_48 _ _ ⟨T.1, T.2⟩  )
        · exact gd_tR (ext_r _) (gX96_readTimer_48 _ _ ⟨T.1, T.2⟩  )
      · exact gd_tR (ext_r _) (gX96_readTimer_49 _ _ _ _ ⟨T.1, T.2⟩ n_a0 (((h.1 c0_0).2 c1_0).2 c2_0))
  · exact gd_tR (ext_r _) (gX96_readTimer_49 _ _ _ _ ⟨T.1, T.2⟩ n_a0 (h.2 c0_0))
noncomputable def GX96_readTimer (a0 : Nat) (a1 : Int64) (a3 : Int32) (M : FM) : Int64 × FM := GX96_readTimer_0 a0 a1 a3 M
def HX96_readTimer (a0 : Nat) (a1 : Int64) (a3 : Int32) (M : FM) : Prop := HX96_readTimer_0 a0 a1 a3 M
theorem gX96_readTimer (a0 : Nat) (a1 : Int64) (a3 : Int32) (M : FM) (T : Ty M) (n_a0 : fm_is M 99 99 a0 = true) (h : HX96_readTimer a0 a1 a3 M) : gd (FX96_readTimer a0 a1 a3 M) (GX96_readTimer a0 a1 a3 M) (OkR M) := gX96_readTimer_0 a0 a1 a3 M T n_a0 h
def kX96_waiting (k4 : Nat → Int64 → Int32 → FM → Option (Int64 × FM)) : (Nat × Int64 × Int32 × FM) ⊕ (Int64 × FM) → Option (Int64 × FM)
  | .inl (v0, v1, v2, M') => k4 v0 v1 v2 M'
  | .inr (r) => some r
def pX96_waiting (M : FM) : (Nat × Int64 × Int32 × FM) ⊕ (Int64 × FM) → Prop
  | .inl (_, _, _, M') => OkV M M'
  | .inr (r) => OkR M r
theorem pX96_waiting_t {M M1 : FM} (e : Ext M M1) : ∀ y, pX96_waiting M1 y → pX96_waiting M y
  | .inl (_, _, _, _), h => ⟨h.1, ext_tr e h.2⟩
  | .inr (r), h => ⟨h.1, ext_tr e h.2⟩
noncomputable def GX96_waiting_28 (a0 : Nat) (a3 : Int32) (s0 : Int64) (M : FM) : (Nat × Int64 × Int32 × FM) ⊕ (Int64 × FM) :=
  let x1 : Int32 := a3 + (Int32.ofInt 1)
  (.inl (a0, s0, x1, M))
theorem gX96_waiting_28 (k4 : Nat → Int64 → Int32 → FM → Option (Int64 × FM)) (a0 : Nat) (a3 : Int32) (s0 : Int64) (M : FM) (T : Ty M) : gs (FX96_waiting_28 fN k4 a0 a3 s0 M) (GX96_waiting_28 a0 a3 s0 M) (kX96_waiting k4) (pX96_waiting M) := by
  delta FX96_waiting_28 BX96_waiting_28
  exact And.intro rfl (And.intro (And.intro T.1 T.2) ((ext_r _)))
noncomputable def GX96_waiting_0 (a0 : Nat) (M : FM) : (Nat × Int64 × Int32 × FM) ⊕ (Int64 × FM) :=
  (.inl (a0, (Int64.ofInt 0), (Int32.ofInt 1), M))
theorem gX96_waiting_0 (k4 : Nat → Int64 → Int32 → FM → Option (Int64 × FM)) (a0 : Nat) (M : FM) (T : Ty M) : gs (FX96_waiting_0 fN k4 a0 M) (GX96_waiting_0 a0 M) (kX96_waiting k4) (pX96_waiting M) := by
  delta FX96_waiting_0 BX96_waiting_0
  exact And.intro rfl (And.intro (And.intro T.1 T.2) ((ext_r _)))
noncomputable def GX96_waiting_4 (a0 : Nat) (a1 : Int64) (a3 : Int32) (M : FM) : (Nat × Int64 × Int32 × FM) ⊕ (Int64 × FM) :=
  fi ((Int32.ofInt 32) ≤ a3) (
    (.inr (a1, M))) (
    let x1 : Nat := (M.2.2 400 a0 0)
    fi ((M.1 3 x1 a3.toNatClampNeg) = 0) (
      GX96_waiting_28 a0 a3 a1 M) (
      GX96_waiting_28 a0 a3 (a1 ||| ((Int64.ofInt 1) <<< (a3.toInt64 &&& 63))) M))
def HX96_waiting_4 (a0 : Nat) (a1 : Int64) (a3 : Int32) (M : FM) : Prop := (((Int32.ofInt 32) ≤ a3 → True) ∧ (¬ ((Int32.ofInt 32) ≤ a3) → let x1 : Nat := (M.2.2 400 a0 0); (fm_in M x1 a3 = true ∧ True)))
theorem gX96_waiting_4 (k4 : Nat → Int64 → Int32 → FM → Option (Int64 × FM)) (a0 : Nat) (a1 : Int64) (a3 : Int32) (M : FM) (T : Ty M) (n_a0 : fm_is M 99 99 a0 = true) (h : HX96_waiting_4 a0 a1 a3 M) : gs (FX96_waiting_4 fN k4 a0 a1 a3 M) (GX96_waiting_4 a0 a1 a3 M) (kX96_waiting k4) (pX96_waiting M) := by
  delta FX96_waiting_4 BX96_waiting_4
  refine gs_fi (fun c0_0 => ?_) (fun c0_0 => ?_)
  · exact And.intro rfl (And.intro (And.intro T.1 T.2) ((ext_r _)))
  · refine gs_c n_a0 ?_
    have f2 := (tN_400 T.1 n_a0)
    refine gs_c ⟨f2, (h.2 c0_0).1⟩ ?_
    refine gs_fi (fun c1_0 => ?_) (fun c1_0 => ?_)
    · exact gs_t (pX96_waiting_t (ext_r _)) (gX96_waiting_28 k4 _ _ _ _ ⟨T.1, T.2⟩  )
    · exact gs_t (pX96_waiting_t (ext_r _)) (gX96_waiting_28 k4 _ _ _ _ ⟨T.1, T.2⟩  )
noncomputable def GX96_waiting (a0 : Nat) (M : FM) : Int64 × FM := (FX96_waiting fN a0 M).getD (0, M)
def HX96_waiting (a0 : Nat) (M : FM) : Prop := ∃ r, FX96_waiting fN a0 M = some r ∧ OkR M r
theorem gX96_waiting (a0 : Nat) (M : FM) (h : HX96_waiting a0 M) : gd (FX96_waiting fN a0 M) (GX96_waiting a0 M) (OkR M) := gd_op h
def kX96_best (k5 : Nat → Int32 → Int32 → Int32 → FM → Option (Int32 × FM)) : (Nat × Int32 × Int32 × Int32 × FM) ⊕ (Int32 × FM) → Option (Int32 × FM)
  | .inl (v0, v1, v2, v3, M') => k5 v0 v1 v2 v3 M'
  | .inr (r) => some r
def pX96_best (M : FM) : (Nat × Int32 × Int32 × Int32 × FM) ⊕ (Int32 × FM) → Prop
  | .inl (_, _, _, _, M') => OkV M M'
  | .inr (r) => OkR M r
theorem pX96_best_t {M M1 : FM} (e : Ext M M1) : ∀ y, pX96_best M1 y → pX96_best M y
  | .inl (_, _, _, _, _), h => ⟨h.1, ext_tr e h.2⟩
  | .inr (r), h => ⟨h.1, ext_tr e h.2⟩
noncomputable def GX96_best_72 (a0 : Nat) (a1 : Int32) (a3 : Int32) (s0 : Int32) (M : FM) : (Nat × Int32 × Int32 × Int32 × FM) ⊕ (Int32 × FM) :=
  let x1 : Int32 := a3 + (Int32.ofInt (-1))
  (.inl (a0, a1, s0, x1, M))
theorem gX96_best_72 (k5 : Nat → Int32 → Int32 → Int32 → FM → Option (Int32 × FM)) (a0 : Nat) (a1 : Int32) (a3 : Int32) (s0 : Int32) (M : FM) (T : Ty M) : gs (FX96_best_72 fN k5 a0 a1 a3 s0 M) (GX96_best_72 a0 a1 a3 s0 M) (kX96_best k5) (pX96_best M) := by
  delta FX96_best_72 BX96_best_72
  exact And.intro rfl (And.intro (And.intro T.1 T.2) ((ext_r _)))
noncomputable def GX96_best_71 (a0 : Nat) (a1 : Int32) (a2 : Int32) (a3 : Int32) (M : FM) : (Nat × Int32 × Int32 × Int32 × FM) ⊕ (Int32 × FM) :=
  GX96_best_72 a0 a1 a3 a2 M
theorem gX96_best_71 (k5 : Nat → Int32 → Int32 → Int32 → FM → Option (Int32 × FM)) (a0 : Nat) (a1 : Int32) (a2 : Int32) (a3 : Int32) (M : FM) (T : Ty M) : gs (FX96_best_71 fN k5 a0 a1 a2 a3 M) (GX96_best_71 a0 a1 a2 a3 M) (kX96_best k5) (pX96_best M) := by
  delta FX96_best_71 BX96_best_71
  exact gs_t (pX96_best_t (ext_r _)) (gX96_best_72 k5 _ _ _ _ _ ⟨T.1, T.2⟩  )
noncomputable def GX96_best_67 (a0 : Nat) (a1 : Int32) (a3 : Int32) (M : FM) : (Nat × Int32 × Int32 × Int32 × FM) ⊕ (Int32 × FM) :=
  GX96_best_72 a0 a1 a3 a3 M
theorem gX96_best_67 (k5 : Nat → Int32 → Int32 → Int32 → FM → Option (Int32 × FM)) (a0 : Nat) (a1 : Int32) (a3 : Int32) (M : FM) (T : Ty M) : gs (FX96_best_67 fN k5 a0 a1 a3 M) (GX96_best_67 a0 a1 a3 M) (kX96_best k5) (pX96_best M) := by
  delta FX96_best_67 BX96_best_67
  exact gs_t (pX96_best_t (ext_r _)) (gX96_best_72 k5 _ _ _ _ _ ⟨T.1, T.2⟩  )
noncomputable def GX96_best_41 (a0 : Nat) (a1 : Int32) (a2 : Int32) (a3 : Int32) (s0 : Int32) (M : FM) : (Nat × Int32 × Int32 × Int32 × FM) ⊕ (Int32 × FM) :=
  fi (s0 = 0) (
    GX96_best_71 a0 a1 a2 a3 M) (
    fi (a2 = 0) (
      GX96_best_67 a0 a1 a3 M) (
      let x1 : Nat := (M.2.2 402 a0 0)
      let x2 : Nat := (M.2.2 402 a0 0)
      fi ((M.1 3 x1 a3.toNatClampNeg) < (M.1 3 x2 a2.toNatClampNeg)) (
        GX96_best_71 a0 a1 a2 a3 M) (
        GX96_best_67 a0 a1 a3 M)))
def HX96_best_41 (a0 : Nat) (a1 : Int32) (a2 : Int32) (a3 : Int32) (s0 : Int32) (M : FM) : Prop := ((s0 = 0 → True) ∧ (¬ (s0 = 0) → ((a2 = 0 → True) ∧ (¬ (a2 = 0) → let x1 : Nat := (M.2.2 402 a0 0); (fm_in M x1 a3 = true ∧ let x2 : Nat := (M.2.2 402 a0 0); (fm_in M x2 a2 = true ∧ True))))))
theorem gX96_best_41 (k5 : Nat → Int32 → Int32 → Int32 → FM → Option (Int32 × FM)) (a0 : Nat) (a1 : Int32) (a2 : Int32) (a3 : Int32) (s0 : Int32) (M : FM) (T : Ty M) (n_a0 : fm_is M 99 99 a0 = true) (h : HX96_best_41 a0 a1 a2 a3 s0 M) : gs (FX96_best_41 fN k5 a0 a1 a2 a3 s0 M) (GX96_best_41 a0 a1 a2 a3 s0 M) (kX96_best k5) (pX96_best M) := by
  delta FX96_best_41 BX96_best_41
  refine gs_fi (fun c0_0 => ?_) (fun c0_0 => ?_)
  · exact gs_t (pX96_best_t (ext_r _)) (gX96_best_71 k5 _ _ _ _ _ ⟨T.1, T.2⟩  )
  · refine gs_fi (fun c1_0 => ?_) (fun c1_0 => ?_)
    · exact gs_t (pX96_best_t (ext_r _)) (gX96_best_67 k5 _ _ _ _ ⟨T.1, T.2⟩  )
    · refine gs_c n_a0 ?_
      have f5 := (tN_402 T.1 n_a0)
      have f6 := ((h.2 c0_0).2 c1_0).1
      refine gs_c ⟨f5, f6⟩ ?_
      refine gs_c n_a0 ?_
      have f3 := (tN_402 T.1 n_a0)
      have f4 := ((h.2 c0_0).2 c1_0).2.1
      refine gs_c ⟨f3, f4⟩ ?_
      refine gs_fi (fun c2_0 => ?_) (fun c2_0 => ?_)
      · exact gs_t (pX96_best_t (ext_r _)) (gX96_best_71 k5 _ _ _ _ _ ⟨T.1, T.2⟩  )
      · exact gs_t (pX96_best_t (ext_r _)) (gX96_best_67 k5 _ _ _ _ ⟨T.1, T.2⟩  )
noncomputable def GX96_best_40 (a0 : Nat) (a1 : Int32) (a2 : Int32) (a3 : Int32) (M : FM) : (Nat × Int32 × Int32 × Int32 × FM) ⊕ (Int32 × FM) :=
  GX96_best_41 a0 a1 a2 a3 (Int32.ofInt 0) M
def HX96_best_40 (a0 : Nat) (a1 : Int32) (a2 : Int32) (a3 : Int32) (M : FM) : Prop := HX96_best_41 a0 a1 a2 a3 (Int32.ofInt 0) M
theorem gX96_best_40 (k5 : Nat → Int32 → Int32 → Int32 → FM → Option (Int32 × FM)) (a0 : Nat) (a1 : Int32) (a2 : Int32) (a3 : Int32) (M : FM) (T : Ty M) (n_a0 : fm_is M 99 99 a0 = true) (h : HX96_best_40 a0 a1 a2 a3 M) : gs (FX96_best_40 fN k5 a0 a1 a2 a3 M) (GX96_best_40 a0 a1 a2 a3 M) (kX96_best k5) (pX96_best M) := by
  delta FX96_best_40 BX96_best_40
  exact gs_t (pX96_best_t (ext_r _)) (gX96_best_41 k5 _ _ _ _ _ _ ⟨T.1, T.2⟩ n_a0 h)
noncomputable def GX96_best_0 (a0 : Nat) (a1 : Int32) (M : FM) : (Nat × Int32 × Int32 × Int32 × FM) ⊕ (Int32 × FM) :=
  (.inl (a0, a1, (Int32.ofInt 0), (Int32.ofInt 31), M))
theorem gX96_best_0 (k5 : Nat → Int32 → Int32 → Int32 → FM → Option (Int32 × FM)) (a0 : Nat) (a1 : Int32) (M : FM) (T : Ty M) : gs (FX96_best_0 fN k5 a0 a1 M) (GX96_best_0 a0 a1 M) (kX96_best k5) (pX96_best M) := by
  delta FX96_best_0 BX96_best_0
  exact And.intro rfl (And.intro (And.intro T.1 T.2) ((ext_r _)))
noncomputable def GX96_best_5 (a0 : Nat) (a1 : Int32) (a2 : Int32) (a3 : Int32) (M : FM) : (Nat × Int32 × Int32 × Int32 × FM) ⊕ (Int32 × FM) :=
  fi (a3 ≤ 0) (
    (.inr (a2, M))) (
    let x1 : Nat := (M.2.2 400 a0 0)
    fi ((M.1 3 x1 a3.toNatClampNeg) = 0) (
      GX96_best_40 a0 a1 a2 a3 M) (
      let r2 : Int32 × FM := GX96_enables a0 a1 a3 M
      fi (r2.1 = 0) (
        GX96_best_40 a0 a1 a2 a3 r2.2) (
        let x3 : Nat := (r2.2.2.2 402 a0 0)
        fi ((r2.2.1 3 x3 a3.toNatClampNeg) ≤ 0) (
          GX96_best_40 a0 a1 a2 a3 r2.2) (
          GX96_best_41 a0 a1 a2 a3 (Int32.ofInt 1) r2.2))))
def HX96_best_5 (a0 : Nat) (a1 : Int32) (a2 : Int32) (a3 : Int32) (M : FM) : Prop := ((a3 ≤ 0 → True) ∧ (¬ (a3 ≤ 0) → let x1 : Nat := (M.2.2 400 a0 0); (fm_in M x1 a3 = true ∧ (((M.1 3 x1 a3.toNatClampNeg) = 0 → HX96_best_40 a0 a1 a2 a3 M) ∧ (¬ ((M.1 3 x1 a3.toNatClampNeg) = 0) → (HX96_enables a0 a1 a3 M ∧ let r2 : Int32 × FM := GX96_enables a0 a1 a3 M; ((r2.1 = 0 → HX96_best_40 a0 a1 a2 a3 r2.2) ∧ (¬ (r2.1 = 0) → let x3 : Nat := (r2.2.2.2 402 a0 0); (fm_in r2.2 x3 a3 = true ∧ (((r2.2.1 3 x3 a3.toNatClampNeg) ≤ 0 → HX96_best_40 a0 a1 a2 a3 r2.2) ∧ (¬ ((r2.2.1 3 x3 a3.toNatClampNeg) ≤ 0) → HX96_best_41 a0 a1 a2 a3 (Int32.ofInt 1) r2.2)))))))))))
theorem gX96_best_5 (k5 : Nat → Int32 → Int32 → Int32 → FM → Option (Int32 × FM)) (a0 : Nat) (a1 : Int32) (a2 : Int32) (a3 : Int32) (M : FM) (T : Ty M) (n_a0 : fm_is M 99 99 a0 = true) (h : HX96_best_5 a0 a1 a2 a3 M) : gs (FX96_best_5 fN k5 a0 a1 a2 a3 M) (GX96_best_5 a0 a1 a2 a3 M) (kX96_best k5) (pX96_best M) := by
  delta FX96_best_5 BX96_best_5
  refine gs_fi (fun c0_0 => ?_) (fun c0_0 => ?_)
  · exact And.intro rfl (And.intro (And.intro T.1 T.2) ((ext_r _)))
  · refine gs_c n_a0 ?_
    have f11 := (tN_400 T.1 n_a0)
    refine gs_c ⟨f11, (h.2 c0_0).1⟩ ?_
    refine gs_fi (fun c1_0 => ?_) (fun c1_0 => ?_)
    · exact gs_t (pX96_best_t (ext_r _)) (gX96_best_40 k5 _ _ _ _ _ ⟨T.1, T.2⟩ n_a0 ((h.2 c0_0).2.1 c1_0))
    · refine gs_c n_a0 ?_
      refine gs_b (gX96_enables _ _ _ _ ⟨T.1, T.2⟩ n_a0 ((h.2 c0_0).2.2 c1_0).1) (fun K2 => ?_)
      refine gs_fi (fun c3_0 => ?_) (fun c3_0 => ?_)
      · have f4 := (ext_is K2.2.1 (Nat.zero_lt_succ _) n_a0)
        exact gs_t (pX96_best_t K2.2.1) (gX96_best_40 k5 _ _ _ _ _ ⟨K2.1.1, K2.1.2⟩ f4 (((h.2 c0_0).2.2 c1_0).2.1 c3_0))
      · have f5 := (ext_is K2.2.1 (Nat.zero_lt_succ _) n_a0)
        refine gs_c f5 ?_
        have f9 := (tN_402 K2.1.1 (ext_is K2.2.1 (Nat.zero_lt_succ _) n_a0))
        have f10 := (((h.2 c0_0).2.2 c1_0).2.2 c3_0).1
        refine gs_c ⟨f9, f10⟩ ?_
        refine gs_fi (fun c6_0 => ?_) (fun c6_0 => ?_)
        · have f7 := (ext_is K2.2.1 (Nat.zero_lt_succ _) n_a0)
          exact gs_t (pX96_best_t K2.2.1) (gX96_best_40 k5 _ _ _ _ _ ⟨K2.1.1, K2.1.2⟩ f7 ((((h.2 c0_0).2.2 c1_0).2.2 c3_0).2.1 c6_0))
        · have f8 := (ext_is K2.2.1 (Nat.zero_lt_succ _) n_a0)
          exact gs_t (pX96_best_t K2.2.1) (gX96_best_41 k5 _ _ _ _ _ _ ⟨K2.1.1, K2.1.2⟩ f8 ((((h.2 c0_0).2.2 c1_0).2.2 c3_0).2.2 c6_0))
noncomputable def GX96_best (a0 : Nat) (a1 : Int32) (M : FM) : Int32 × FM := (FX96_best fN a0 a1 M).getD (0, M)
def HX96_best (a0 : Nat) (a1 : Int32) (M : FM) : Prop := ∃ r, FX96_best fN a0 a1 M = some r ∧ OkR M r
theorem gX96_best (a0 : Nat) (a1 : Int32) (M : FM) (h : HX96_best a0 a1 M) : gd (FX96_best fN a0 a1 M) (GX96_best a0 a1 M) (OkR M) := gd_op h
noncomputable def GX96_claim_50 (a2 : Int32) (M : FM) : Int64 × FM :=
  (a2.toInt64, M)
theorem gX96_claim_50 (a2 : Int32) (M : FM) (T : Ty M) : gd (FX96_claim_50 fN a2 M) (GX96_claim_50 a2 M) (OkR M) := by
  delta FX96_claim_50 BX96_claim_50
  exact ⟨rfl, ⟨T.1, T.2⟩, (ext_r _)⟩
noncomputable def GX96_claim_33 (a0 : Nat) (a2 : Int32) (s0 : Nat) (s1 : Int64) (M : FM) : Int64 × FM :=
  let M1 : FM := fm_sL M 414 s0 0 s1
  let x2 : Nat := (M1.2.2 400 a0 0)
  let M3 : FM := fm_sI M1 3 x2 a2.toNatClampNeg ((Int32.ofInt 0) &&& 1)
  let x4 : Nat := (M3.2.2 401 a0 0)
  let M5 : FM := fm_sI M3 3 x4 a2.toNatClampNeg ((Int32.ofInt 1) &&& 1)
  GX96_claim_50 a2 M5
def HX96_claim_33 (a0 : Nat) (a2 : Int32) (s0 : Nat) (s1 : Int64) (M : FM) : Prop := let M1 : FM := fm_sL M 414 s0 0 s1; let x2 : Nat := (M1.2.2 400 a0 0); (fm_in M1 x2 a2 = true ∧ let M3 : FM := fm_sI M1 3 x2 a2.toNatClampNeg ((Int32.ofInt 0) &&& 1); let x4 : Nat := (M3.2.2 401 a0 0); (fm_in M3 x4 a2 = true ∧ True))
theorem gX96_claim_33 (a0 : Nat) (a2 : Int32) (s0 : Nat) (s1 : Int64) (M : FM) (T : Ty M) (n_s0 : fm_is M 99 99 s0 = true) (n_a0 : fm_is M 99 99 a0 = true) (h : HX96_claim_33 a0 a2 s0 s1 M) : gd (FX96_claim_33 fN a0 a2 s0 s1 M) (GX96_claim_33 a0 a2 s0 s1 M) (OkR M) := by
  delta FX96_claim_33 BX96_claim_33
  refine gd_c n_s0 ?_
  refine gd_c n_a0 ?_
  have f0 := (tN_400 T.1 n_a0)
  refine gd_c ⟨f0, h.1⟩ ?_
  refine gd_c n_a0 ?_
  have f1 := (tN_401 T.1 n_a0)
  refine gd_c ⟨f1, h.2.1⟩ ?_
  exact gd_tR (ext_dL (ext_dI (ext_dI (ext_r _)))) (gX96_claim_50 _ _ ⟨T.1, (tyb_s4 (tyb_s4 T.2))⟩  )
noncomputable def GX96_claim_0 (a0 : Nat) (a1 : Int32) (M : FM) : Int64 × FM :=
  let r1 : Int32 × FM := GX96_best a0 a1 M
  fi (r1.1 ≤ 0) (
    GX96_claim_50 r1.1 r1.2) (
    let x2 : Nat := (r1.2.2.2 401 a0 0)
    fi ((r1.2.1 3 x2 r1.1.toNatClampNeg) = 0) (
      GX96_claim_33 a0 r1.1 a0 (r1.2.2.1 414 a0 0) r1.2) (
      GX96_claim_33 a0 r1.1 a0 ((r1.2.2.1 414 a0 0) + (Int64.ofInt 1)) r1.2))
def HX96_claim_0 (a0 : Nat) (a1 : Int32) (M : FM) : Prop := (HX96_best a0 a1 M ∧ let r1 : Int32 × FM := GX96_best a0 a1 M; ((r1.1 ≤ 0 → True) ∧ (¬ (r1.1 ≤ 0) → let x2 : Nat := (r1.2.2.2 401 a0 0); (fm_in r1.2 x2 r1.1 = true ∧ (((r1.2.1 3 x2 r1.1.toNatClampNeg) = 0 → HX96_claim_33 a0 r1.1 a0 (r1.2.2.1 414 a0 0) r1.2) ∧ (¬ ((r1.2.1 3 x2 r1.1.toNatClampNeg) = 0) → HX96_claim_33 a0 r1.1 a0 ((r1.2.2.1 414 a0 0) + (Int64.ofInt 1)) r1.2))))))
theorem gX96_claim_0 (a0 : Nat) (a1 : Int32) (M : FM) (T : Ty M) (n_a0 : fm_is M 99 99 a0 = true) (h : HX96_claim_0 a0 a1 M) : gd (FX96_claim_0 fN a0 a1 M) (GX96_claim_0 a0 a1 M) (OkR M) := by
  delta FX96_claim_0 BX96_claim_0
  refine gd_c n_a0 ?_
  refine gd_b (gX96_best _ _ _ h.1) (fun K0 => ?_)
  refine gd_fi (fun c1_0 => ?_) (fun c1_0 => ?_)
  · exact gd_tR K0.2 (gX96_claim_50 _ _ ⟨K0.1.1, K0.1.2⟩  )
  · have f2 := (ext_is K0.2 (Nat.zero_lt_succ _) n_a0)
    refine gd_c f2 ?_
    have f10 := (tN_401 K0.1.1 (ext_is K0.2 (Nat.zero_lt_succ _) n_a0))
    refine gd_c ⟨f10, (h.2.2 c1_0).1⟩ ?_
    refine gd_fi (fun c3_0 => ?_) (fun c3_0 => ?_)
    · have f4 := (ext_is K0.2 (Nat.zero_lt_succ _) n_a0)
      refine gd_c f4 ?_
      have f5 := (ext_is K0.2 (Nat.zero_lt_succ _) n_a0)
      have f6 := (ext_is K0.2 (Nat.zero_lt_succ _) n_a0)
      exact gd_tR K0.2 (gX96_claim_33 _ _ _ _ _ ⟨K0.1.1, K0.1.2⟩ f5 f6 ((h.2.2 c1_0).2.1 c3_0))
    · have f7 := (ext_is K0.2 (Nat.zero_lt_succ _) n_a0)
      refine gd_c f7 ?_
      have f8 := (ext_is K0.2 (Nat.zero_lt_succ _) n_a0)
      have f9 := (ext_is K0.2 (Nat.zero_lt_succ _) n_a0)
      exact gd_tR K0.2 (gX96_claim_33 _ _ _ _ _ ⟨K0.1.1, K0.1.2⟩ f8 f9 ((h.2.2 c1_0).2.2 c3_0))
noncomputable def GX96_claim (a0 : Nat) (a1 : Int32) (M : FM) : Int64 × FM := GX96_claim_0 a0 a1 M
def HX96_claim (a0 : Nat) (a1 : Int32) (M : FM) : Prop := HX96_claim_0 a0 a1 M
theorem gX96_claim (a0 : Nat) (a1 : Int32) (M : FM) (T : Ty M) (n_a0 : fm_is M 99 99 a0 = true) (h : HX96_claim a0 a1 M) : gd (FX96_claim fN a0 a1 M) (GX96_claim a0 a1 M) (OkR M) := gX96_claim_0 a0 a1 M T n_a0 h
noncomputable def GX96_readController_121 (s0 : Int64) (M : FM) : Int64 × FM :=
  (s0, M)
theorem gX96_readController_121 (s0 : Int64) (M : FM) (T : Ty M) : gd (FX96_readController_121 fN s0 M) (GX96_readController_121 s0 M) (OkR M) := by
  delta FX96_readController_121 BX96_readController_121
  exact ⟨rfl, ⟨T.1, T.2⟩, (ext_r _)⟩
noncomputable def GX96_readController_44 (a0 : Nat) (a1 : Int64) (M : FM) : Int64 × FM :=
  let r1 : Int32 × FM := GX96_contextAt a0 a1 (Int64.ofInt 8192) (Int64.ofInt 128) M
  fi (r1.1 < 0) (
    let r2 : Int32 × FM := GX96_contextAt a0 a1 (Int64.ofInt 2097152) (Int64.ofInt 4096) r1.2
    fi (r2.1 < 0) (
      let r3 : Int32 × FM := GX96_contextAt a0 a1 (Int64.ofInt 2097156) (Int64.ofInt 4096) r2.2
      fi (r3.1 < 0) (
        GX96_readController_121 (Int64.ofInt 0) r3.2) (
        let r4 : Int64 × FM := GX96_claim a0 r3.1 r3.2
        GX96_readController_121 r4.1 r4.2)) (
      let x5 : Nat := (r2.2.2.2 404 a0 0)
      ((r2.2.1 3 x5 r2.1.toNatClampNeg).toInt64, r2.2))) (
    let x6 : Nat := (r1.2.2.2 403 a0 0)
    (((r1.2.1 3 x6 r1.1.toNatClampNeg).toInt64 &&& (Int64.ofInt 4294967295)), r1.2))
def HX96_readController_44 (a0 : Nat) (a1 : Int64) (M : FM) : Prop := (HX96_contextAt a0 a1 (Int64.ofInt 8192) (Int64.ofInt 128) M ∧ let r1 : Int32 × FM := GX96_contextAt a0 a1 (Int64.ofInt 8192) (Int64.ofInt 128) M; ((r1.1 < 0 → (HX96_contextAt a0 a1 (Int64.ofInt 2097152) (Int64.ofInt 4096) r1.2 ∧ let r2 : Int32 × FM := GX96_contextAt a0 a1 (Int64.ofInt 2097152) (Int64.ofInt 4096) r1.2; ((r2.1 < 0 → (HX96_contextAt a0 a1 (Int64.ofInt 2097156) (Int64.ofInt 4096) r2.2 ∧ let r3 : Int32 × FM := GX96_contextAt a0 a1 (Int64.ofInt 2097156) (Int64.ofInt 4096) r2.2; ((r3.1 < 0 → True) ∧ (¬ (r3.1 < 0) → (HX96_claim a0 r3.1 r3.2 ∧ True))))) ∧ (¬ (r2.1 < 0) → let x5 : Nat := (r2.2.2.2 404 a0 0); (fm_in r2.2 x5 r2.1 = true ∧ True))))) ∧ (¬ (r1.1 < 0) → let x6 : Nat := (r1.2.2.2 403 a0 0); (fm_in r1.2 x6 r1.1 = true ∧ True))))
theorem gX96_readController_44 (a0 : Nat) (a1 : Int64) (M : FM) (T : Ty M) (n_a0 : fm_is M 99 99 a0 = true) (h : HX96_readController_44 a0 a1 M) : gd (FX96_readController_44 fN a0 a1 M) (GX96_readController_44 a0 a1 M) (OkR M) := by
  delta FX96_readController_44 BX96_readController_44
  refine gd_c n_a0 ?_
  refine gd_b (gX96_contextAt _ _ _ _ _ ⟨T.1, T.2⟩ n_a0 h.1) (fun K0 => ?_)
  refine gd_fi (fun c1_0 => ?_) (fun c1_0 => ?_)
  · have f2 := (ext_is K0.2 (Nat.zero_lt_succ _) n_a0)
    refine gd_c f2 ?_
    have f15 := (ext_is K0.2 (Nat.zero_lt_succ _) n_a0)
    refine gd_b (gX96_contextAt _ _ _ _ _ ⟨K0.1.1, K0.1.2⟩ f15 (h.2.1 c1_0).1) (fun K3 => ?_)
    refine gd_fi (fun c4_0 => ?_) (fun c4_0 => ?_)
    · have f5 := (ext_is K3.2 (Nat.zero_lt_succ _) (ext_is K0.2 (Nat.zero_lt_succ _) n_a0))
      refine gd_c f5 ?_
      have f11 := (ext_is K3.2 (Nat.zero_lt_succ _) (ext_is K0.2 (Nat.zero_lt_succ _) n_a0))
      refine gd_b (gX96_contextAt _ _ _ _ _ ⟨K3.1.1, K3.1.2⟩ f11 ((h.2.1 c1_0).2.1 c4_0).1) (fun K6 => ?_)
      refine gd_fi (fun c7_0 => ?_) (fun c7_0 => ?_)
      · exact gd_tR (ext_tr K0.2 (ext_tr K3.2 K6.2)) (gX96_readController_121 _ _ ⟨K6.1.1, K6.1.2⟩  )
      · have f8 := (ext_is K6.2 (Nat.zero_lt_succ _) (ext_is K3.2 (Nat.zero_lt_succ _) (ext_is K0.2 (Nat.zero_lt_succ _) n_a0)))
        refine gd_c f8 ?_
        have f10 := (ext_is K6.2 (Nat.zero_lt_succ _) (ext_is K3.2 (Nat.zero_lt_succ _) (ext_is K0.2 (Nat.zero_lt_succ _) n_a0)))
        refine gd_b (gX96_claim _ _ _ ⟨K6.1.1, K6.1.2⟩ f10 (((h.2.1 c1_0).2.1 c4_0).2.2 c7_0).1) (fun K9 => ?_)
        exact gd_tR (ext_tr K0.2 (ext_tr K3.2 (ext_tr K6.2 K9.2))) (gX96_readController_121 _ _ ⟨K9.1.1, K9.1.2⟩  )
    · have f12 := (ext_is K3.2 (Nat.zero_lt_succ _) (ext_is K0.2 (Nat.zero_lt_succ _) n_a0))
      refine gd_c f12 ?_
      have f13 := (tN_404 K3.1.1 (ext_is K3.2 (Nat.zero_lt_succ _) (ext_is K0.2 (Nat.zero_lt_succ _) n_a0)))
      have f14 := ((h.2.1 c1_0).2.2 c4_0).1
      refine gd_c ⟨f13, f14⟩ ?_
      exact ⟨rfl, ⟨K3.1.1, K3.1.2⟩, (ext_tr K0.2 K3.2)⟩
  · have f16 := (ext_is K0.2 (Nat.zero_lt_succ _) n_a0)
    refine gd_c f16 ?_
    have f17 := (tN_403 K0.1.1 (ext_is K0.2 (Nat.zero_lt_succ _) n_a0))
    refine gd_c ⟨f17, (h.2.2 c1_0).1⟩ ?_
    exact ⟨rfl, ⟨K0.1.1, K0.1.2⟩, K0.2⟩
noncomputable def GX96_readController_0 (a0 : Nat) (a1 : Int64) (M : FM) : Int64 × FM :=
  fi ((lg_cmp a1 (Int64.ofInt 4096)) = 0) (
    let r1 : Int64 × FM := GX96_waiting a0 M
    (r1.1, r1.2)) (
    fi (0 ≤ (lg_cmp a1 (Int64.ofInt 128))) (
      GX96_readController_44 a0 a1 M) (
      fi ((lg_cmp (a1 - a1 / (Int64.ofInt 4) * (Int64.ofInt 4)) (Int64.ofInt 0)) = 0) (
        let x2 : Int32 := (a1 / (Int64.ofInt 4)).toInt32
        let x3 : Nat := (M.2.2 402 a0 0)
        ((M.1 3 x3 x2.toNatClampNeg).toInt64, M)) (
        GX96_readController_44 a0 a1 M)))
def HX96_readController_0 (a0 : Nat) (a1 : Int64) (M : FM) : Prop := (((lg_cmp a1 (Int64.ofInt 4096)) = 0 → (HX96_waiting a0 M ∧ True)) ∧ (¬ ((lg_cmp a1 (Int64.ofInt 4096)) = 0) → ((0 ≤ (lg_cmp a1 (Int64.ofInt 128)) → HX96_readController_44 a0 a1 M) ∧ (¬ (0 ≤ (lg_cmp a1 (Int64.ofInt 128))) → (((lg_cmp (a1 - a1 / (Int64.ofInt 4) * (Int64.ofInt 4)) (Int64.ofInt 0)) = 0 → let x2 : Int32 := (a1 / (Int64.ofInt 4)).toInt32; let x3 : Nat := (M.2.2 402 a0 0); (fm_in M x3 x2 = true ∧ True)) ∧ (¬ ((lg_cmp (a1 - a1 / (Int64.ofInt 4) * (Int64.ofInt 4)) (Int64.ofInt 0)) = 0) → HX96_readController_44 a0 a1 M))))))
theorem gX96_readController_0 (a0 : Nat) (a1 : Int64) (M : FM) (T : Ty M) (n_a0 : fm_is M 99 99 a0 = true) (h : HX96_readController_0 a0 a1 M) : gd (FX96_readController_0 fN a0 a1 M) (GX96_readController_0 a0 a1 M) (OkR M) := by
  delta FX96_readController_0 BX96_readController_0
  refine gd_fi (fun c0_0 => ?_) (fun c0_0 => ?_)
  · refine gd_c n_a0 ?_
    refine gd_b (gX96_waiting _ _ (h.1 c0_0).1) (fun K1 => ?_)
    exact ⟨rfl, ⟨K1.1.1, K1.1.2⟩, K1.2⟩
  · refine gd_fi (fun c2_0 => ?_) (fun c2_0 => ?_)
    · exact gd_tR (ext_r _) (gX96_readController_44 _ _ _ ⟨T.1, T.2⟩ n_a0 ((h.2 c0_0).1 c2_0))
    · refine gd_n (by decide) ?_
      refine gd_fi (fun c3_0 => ?_) (fun c3_0 => ?_)
      · refine gd_c n_a0 ?_
        refine gd_n (by decide) ?_
        have f4 := (tN_402 T.1 n_a0)
        have f5 := (((h.2 c0_0).2 c2_0).1 c3_0).1
        refine gd_c ⟨f4, f5⟩ ?_
        exact ⟨rfl, ⟨T.1, T.2⟩, (ext_r _)⟩
      · exact gd_tR (ext_r _) (gX96_readController_44 _ _ _ ⟨T.1, T.2⟩ n_a0 (((h.2 c0_0).2 c2_0).2 c3_0))
noncomputable def GX96_readController (a0 : Nat) (a1 : Int64) (M : FM) : Int64 × FM := GX96_readController_0 a0 a1 M
def HX96_readController (a0 : Nat) (a1 : Int64) (M : FM) : Prop := HX96_readController_0 a0 a1 M
theorem gX96_readController (a0 : Nat) (a1 : Int64) (M : FM) (T : Ty M) (n_a0 : fm_is M 99 99 a0 = true) (h : HX96_readController a0 a1 M) : gd (FX96_readController fN a0 a1 M) (GX96_readController a0 a1 M) (OkR M) := gX96_readController_0 a0 a1 M T n_a0 h
def kX96_takeOut (k28 : Nat → Int32 → Int32 → FM → Option (Int32 × FM)) : (Nat × Int32 × Int32 × FM) ⊕ (Int32 × FM) → Option (Int32 × FM)
  | .inl (v0, v1, v2, M') => k28 v0 v1 v2 M'
  | .inr (r) => some r
def pX96_takeOut (M : FM) : (Nat × Int32 × Int32 × FM) ⊕ (Int32 × FM) → Prop
  | .inl (_, _, _, M') => OkV M M'
  | .inr (r) => OkR M r
theorem pX96_takeOut_t {M M1 : FM} (e : Ext M M1) : ∀ y, pX96_takeOut M1 y → pX96_takeOut M y
  | .inl (_, _, _, _), h => ⟨h.1, ext_tr e h.2⟩
  | .inr (r), h => ⟨h.1, ext_tr e h.2⟩
noncomputable def GX96_takeOut_0 (a0 : Nat) (M : FM) : (Nat × Int32 × Int32 × FM) ⊕ (Int32 × FM) :=
  fi ((M.1 411 a0 0) = 0) (
    (.inr ((Int32.ofInt 0), M))) (
    let x1 : Nat := (M.2.2 410 a0 0)
    let x2 : Int32 := (M.1 3 x1 (Int32.ofInt 0).toNatClampNeg)
    let M3 : FM := fm_sI M 411 a0 0 ((M.1 411 a0 0) - (Int32.ofInt 1))
    (.inl (a0, x2, (Int32.ofInt 0), M3)))
theorem gX96_takeOut_0 (k28 : Nat → Int32 → Int32 → FM → Option (Int32 × FM)) (a0 : Nat) (M : FM) (T : Ty M) (n_a0 : fm_is M 99 99 a0 = true) : gs (FX96_takeOut_0 fN k28 a0 M) (GX96_takeOut_0 a0 M) (kX96_takeOut k28) (pX96_takeOut M) := by
  delta FX96_takeOut_0 BX96_takeOut_0
  refine gs_c n_a0 ?_
  refine gs_fi (fun c0_0 => ?_) (fun c0_0 => ?_)
  · exact And.intro rfl (And.intro (And.intro T.1 T.2) ((ext_r _)))
  · refine gs_c n_a0 ?_
    have f1 := (tN_410 T.1 n_a0)
    have f2 := (fm_inl (i := (Int32.ofInt 0)) (tL_410 T.1 n_a0) (by decide))
    refine gs_c ⟨f1, f2⟩ ?_
    refine gs_c n_a0 ?_
    refine gs_c n_a0 ?_
    exact And.intro rfl (And.intro (And.intro T.1 (tyb_sI (f := 411) rfl T.2)) ((ext_dI (ext_r _))))
noncomputable def GX96_takeOut_28 (a0 : Nat) (a1 : Int32) (a2 : Int32) (M : FM) : (Nat × Int32 × Int32 × FM) ⊕ (Int32 × FM) :=
  fi ((M.1 411 a0 0) ≤ a2) (
    (.inr (a1, M))) (
    let x1 : Int32 := (a2 + (Int32.ofInt 1))
    let x2 : Nat := (M.2.2 410 a0 0)
    let x3 : Nat := (M.2.2 410 a0 0)
    let M4 : FM := fm_sI M 3 x3 a2.toNatClampNeg (M.1 3 x2 x1.toNatClampNeg)
    let x5 : Int32 := a2 + (Int32.ofInt 1)
    (.inl (a0, a1, x5, M4)))
def HX96_takeOut_28 (a0 : Nat) (a1 : Int32) (a2 : Int32) (M : FM) : Prop := (((M.1 411 a0 0) ≤ a2 → True) ∧ (¬ ((M.1 411 a0 0) ≤ a2) → let x1 : Int32 := (a2 + (Int32.ofInt 1)); let x2 : Nat := (M.2.2 410 a0 0); (fm_in M x2 x1 = true ∧ let x3 : Nat := (M.2.2 410 a0 0); (fm_in M x3 a2 = true ∧ True))))
theorem gX96_takeOut_28 (k28 : Nat → Int32 → Int32 → FM → Option (Int32 × FM)) (a0 : Nat) (a1 : Int32) (a2 : Int32) (M : FM) (T : Ty M) (n_a0 : fm_is M 99 99 a0 = true) (h : HX96_takeOut_28 a0 a1 a2 M) : gs (FX96_takeOut_28 fN k28 a0 a1 a2 M) (GX96_takeOut_28 a0 a1 a2 M) (kX96_takeOut k28) (pX96_takeOut M) := by
  delta FX96_takeOut_28 BX96_takeOut_28
  refine gs_c n_a0 ?_
  refine gs_fi (fun c0_0 => ?_) (fun c0_0 => ?_)
  · exact And.intro rfl (And.intro (And.intro T.1 T.2) ((ext_r _)))
  · refine gs_c n_a0 ?_
    refine gs_c n_a0 ?_
    have f2 := (tN_410 T.1 n_a0)
    refine gs_c ⟨f2, (h.2 c0_0).1⟩ ?_
    have f1 := (tN_410 T.1 n_a0)
    refine gs_c ⟨f1, (h.2 c0_0).2.1⟩ ?_
    exact And.intro rfl (And.intro (And.intro T.1 (tyb_s3 (t := 901) rfl T.2 f1)) ((ext_dI (ext_r _))))
noncomputable def GX96_takeOut (a0 : Nat) (M : FM) : Int32 × FM := (FX96_takeOut fN a0 M).getD (0, M)
def HX96_takeOut (a0 : Nat) (M : FM) : Prop := ∃ r, FX96_takeOut fN a0 M = some r ∧ OkR M r
theorem gX96_takeOut (a0 : Nat) (M : FM) (h : HX96_takeOut a0 M) : gd (FX96_takeOut fN a0 M) (GX96_takeOut a0 M) (OkR M) := gd_op h
noncomputable def GX96_readCause_38 (s0 : Int32) (M : FM) : Int32 × FM :=
  (s0, M)
theorem gX96_readCause_38 (s0 : Int32) (M : FM) (T : Ty M) : gd (FX96_readCause_38 s0 M) (GX96_readCause_38 s0 M) (OkR M) := by
  delta FX96_readCause_38 BX96_readCause_38
  exact ⟨rfl, ⟨T.1, T.2⟩, (ext_r _)⟩
noncomputable def GX96_readCause_19 (a0 : Nat) (a1 : Int32) (s0 : Nat) (s1 : Int32) (M : FM) : Int32 × FM :=
  let M1 : FM := fm_sI M 409 s0 0 s1
  fi ((M1.1 407 a0 0) = 0) (
    GX96_readCause_38 a1 M1) (
    GX96_readCause_38 (a1 + (Int32.ofInt 192)) M1)
theorem gX96_readCause_19 (a0 : Nat) (a1 : Int32) (s0 : Nat) (s1 : Int32) (M : FM) (T : Ty M) (n_s0 : fm_is M 99 99 s0 = true) (z_s1 : s1 = 0 ∨ s1 = 1) (n_a0 : fm_is M 99 99 a0 = true) : gd (FX96_readCause_19 a0 a1 s0 s1 M) (GX96_readCause_19 a0 a1 s0 s1 M) (OkR M) := by
  delta FX96_readCause_19 BX96_readCause_19
  refine gd_c n_s0 ?_
  refine gd_c z_s1 ?_
  refine gd_c n_a0 ?_
  refine gd_fi (fun c0_0 => ?_) (fun c0_0 => ?_)
  · exact gd_tR (ext_dI (ext_r _)) (gX96_readCause_38 _ _ ⟨T.1, (tyb_sIb (f := 409) rfl T.2 z_s1)⟩  )
  · exact gd_tR (ext_dI (ext_r _)) (gX96_readCause_38 _ _ ⟨T.1, (tyb_sIb (f := 409) rfl T.2 z_s1)⟩  )
noncomputable def GX96_readCause_0 (a0 : Nat) (M : FM) : Int32 × FM :=
  let r1 : Int32 × FM := GX96_cause a0 M
  fi (r1.1 = (Int32.ofInt 2)) (
    GX96_readCause_19 a0 r1.1 a0 (Int32.ofInt 0) r1.2) (
    GX96_readCause_19 a0 r1.1 a0 (r1.2.1 409 a0 0) r1.2)
def HX96_readCause_0 (a0 : Nat) (M : FM) : Prop := (HX96_cause a0 M ∧ True)
theorem gX96_readCause_0 (a0 : Nat) (M : FM) (T : Ty M) (n_a0 : fm_is M 99 99 a0 = true) (h : HX96_readCause_0 a0 M) : gd (FX96_readCause_0 a0 M) (GX96_readCause_0 a0 M) (OkR M) := by
  delta FX96_readCause_0 BX96_readCause_0
  refine gd_c n_a0 ?_
  refine gd_b (gX96_cause _ _ ⟨T.1, T.2⟩ n_a0 h.1) (fun K0 => ?_)
  refine gd_fi (fun c1_0 => ?_) (fun c1_0 => ?_)
  · have f2 := (ext_is K0.2 (Nat.zero_lt_succ _) n_a0)
    have f3 := (ext_is K0.2 (Nat.zero_lt_succ _) n_a0)
    exact gd_tR K0.2 (gX96_readCause_19 _ _ _ _ _ ⟨K0.1.1, K0.1.2⟩ f2 fz_0 f3 )
  · have f4 := (ext_is K0.2 (Nat.zero_lt_succ _) n_a0)
    refine gd_c f4 ?_
    have f5 := (ext_is K0.2 (Nat.zero_lt_succ _) n_a0)
    have f6 := (ext_is K0.2 (Nat.zero_lt_succ _) n_a0)
    exact gd_tR K0.2 (gX96_readCause_19 _ _ _ _ _ ⟨K0.1.1, K0.1.2⟩ f5 (tB_409 K0.1.2 _) f6 )
noncomputable def GX96_readCause (a0 : Nat) (M : FM) : Int32 × FM := GX96_readCause_0 a0 M
def HX96_readCause (a0 : Nat) (M : FM) : Prop := HX96_readCause_0 a0 M
theorem gX96_readCause (a0 : Nat) (M : FM) (T : Ty M) (n_a0 : fm_is M 99 99 a0 = true) (h : HX96_readCause a0 M) : gd (FX96_readCause a0 M) (GX96_readCause a0 M) (OkR M) := gX96_readCause_0 a0 M T n_a0 h
noncomputable def GX96_readState_27 (a0 : Nat) (s0 : Int32) (s1 : Int32) (M : FM) : Int32 × FM :=
  let x1 : Int32 := (s0 + s1)
  let M2 : FM := fm_sI M 408 a0 0 (Int32.ofInt 0)
  (x1, M2)
theorem gX96_readState_27 (a0 : Nat) (s0 : Int32) (s1 : Int32) (M : FM) (T : Ty M) (n_a0 : fm_is M 99 99 a0 = true) : gd (FX96_readState_27 a0 s0 s1 M) (GX96_readState_27 a0 s0 s1 M) (OkR M) := by
  delta FX96_readState_27 BX96_readState_27
  refine gd_c n_a0 ?_
  refine gd_c fz_0 ?_
  exact ⟨rfl, ⟨T.1, (tyb_sIb (f := 408) rfl T.2 fz_0)⟩, (ext_dI (ext_r _))⟩
noncomputable def GX96_readState_14 (a0 : Nat) (s0 : Int32) (s1 : Int32) (M : FM) : Int32 × FM :=
  fi ((M.1 408 a0 0) = 0) (
    GX96_readState_27 a0 (s0 + s1) (Int32.ofInt 0) M) (
    GX96_readState_27 a0 (s0 + s1) (Int32.ofInt 2) M)
theorem gX96_readState_14 (a0 : Nat) (s0 : Int32) (s1 : Int32) (M : FM) (T : Ty M) (n_a0 : fm_is M 99 99 a0 = true) : gd (FX96_readState_14 a0 s0 s1 M) (GX96_readState_14 a0 s0 s1 M) (OkR M) := by
  delta FX96_readState_14 BX96_readState_14
  refine gd_c n_a0 ?_
  refine gd_fi (fun c0_0 => ?_) (fun c0_0 => ?_)
  · exact gd_tR (ext_r _) (gX96_readState_27 _ _ _ _ ⟨T.1, T.2⟩ n_a0 )
  · exact gd_tR (ext_r _) (gX96_readState_27 _ _ _ _ ⟨T.1, T.2⟩ n_a0 )
noncomputable def GX96_readState_0 (a0 : Nat) (M : FM) : Int32 × FM :=
  fi ((M.1 411 a0 0) ≤ 0) (
    GX96_readState_14 a0 (Int32.ofInt 96) (Int32.ofInt 0) M) (
    GX96_readState_14 a0 (Int32.ofInt 96) (Int32.ofInt 1) M)
theorem gX96_readState_0 (a0 : Nat) (M : FM) (T : Ty M) (n_a0 : fm_is M 99 99 a0 = true) : gd (FX96_readState_0 a0 M) (GX96_readState_0 a0 M) (OkR M) := by
  delta FX96_readState_0 BX96_readState_0
  refine gd_c n_a0 ?_
  refine gd_fi (fun c0_0 => ?_) (fun c0_0 => ?_)
  · exact gd_tR (ext_r _) (gX96_readState_14 _ _ _ _ ⟨T.1, T.2⟩ n_a0 )
  · exact gd_tR (ext_r _) (gX96_readState_14 _ _ _ _ ⟨T.1, T.2⟩ n_a0 )
noncomputable def GX96_readState (a0 : Nat) (M : FM) : Int32 × FM := GX96_readState_0 a0 M
theorem gX96_readState (a0 : Nat) (M : FM) (T : Ty M) (n_a0 : fm_is M 99 99 a0 = true) : gd (FX96_readState a0 M) (GX96_readState a0 M) (OkR M) := gX96_readState_0 a0 M T n_a0 
noncomputable def GX96_looped_70 (s0 : Int32) (M : FM) : Int32 × FM :=
  (s0, M)
theorem gX96_looped_70 (s0 : Int32) (M : FM) (T : Ty M) : gd (FX96_looped_70 s0 M) (GX96_looped_70 s0 M) (OkR M) := by
  delta FX96_looped_70 BX96_looped_70
  exact ⟨rfl, ⟨T.1, T.2⟩, (ext_r _)⟩
noncomputable def GX96_looped_51 (a0 : Nat) (s0 : Int32) (M : FM) : Int32 × FM :=
  let r1 : Int32 × FM := GX96_hasBit a0 (Int32.ofInt 4) (Int32.ofInt 3) M
  fi (r1.1 = 0) (
    GX96_looped_70 s0 r1.2) (
    GX96_looped_70 (s0 + (Int32.ofInt 128)) r1.2)
def HX96_looped_51 (a0 : Nat) (s0 : Int32) (M : FM) : Prop := (HX96_hasBit a0 (Int32.ofInt 4) (Int32.ofInt 3) M ∧ True)
theorem gX96_looped_51 (a0 : Nat) (s0 : Int32) (M : FM) (T : Ty M) (n_a0 : fm_is M 99 99 a0 = true) (h : HX96_looped_51 a0 s0 M) : gd (FX96_looped_51 a0 s0 M) (GX96_looped_51 a0 s0 M) (OkR M) := by
  delta FX96_looped_51 BX96_looped_51
  refine gd_c n_a0 ?_
  refine gd_b (gX96_hasBit _ _ _ _ ⟨T.1, T.2⟩ n_a0 h.1) (fun K0 => ?_)
  refine gd_fi (fun c1_0 => ?_) (fun c1_0 => ?_)
  · exact gd_tR K0.2.1 (gX96_looped_70 _ _ ⟨K0.1.1, K0.1.2⟩  )
  · exact gd_tR K0.2.1 (gX96_looped_70 _ _ ⟨K0.1.1, K0.1.2⟩  )
noncomputable def GX96_looped_33 (a0 : Nat) (s0 : Int32) (M : FM) : Int32 × FM :=
  let r1 : Int32 × FM := GX96_hasBit a0 (Int32.ofInt 4) (Int32.ofInt 2) M
  fi (r1.1 = 0) (
    GX96_looped_51 a0 s0 r1.2) (
    GX96_looped_51 a0 (s0 + (Int32.ofInt 64)) r1.2)
def HX96_looped_33 (a0 : Nat) (s0 : Int32) (M : FM) : Prop := (HX96_hasBit a0 (Int32.ofInt 4) (Int32.ofInt 2) M ∧ let r1 : Int32 × FM := GX96_hasBit a0 (Int32.ofInt 4) (Int32.ofInt 2) M; ((r1.1 = 0 → HX96_looped_51 a0 s0 r1.2) ∧ (¬ (r1.1 = 0) → HX96_looped_51 a0 (s0 + (Int32.ofInt 64)) r1.2)))
theorem gX96_looped_33 (a0 : Nat) (s0 : Int32) (M : FM) (T : Ty M) (n_a0 : fm_is M 99 99 a0 = true) (h : HX96_looped_33 a0 s0 M) : gd (FX96_looped_33 a0 s0 M) (GX96_looped_33 a0 s0 M) (OkR M) := by
  delta FX96_looped_33 BX96_looped_33
  refine gd_c n_a0 ?_
  refine gd_b (gX96_hasBit _ _ _ _ ⟨T.1, T.2⟩ n_a0 h.1) (fun K0 => ?_)
  refine gd_fi (fun c1_0 => ?_) (fun c1_0 => ?_)
  · have f2 := (ext_is K0.2.1 (Nat.zero_lt_succ _) n_a0)
    exact gd_tR K0.2.1 (gX96_looped_51 _ _ _ ⟨K0.1.1, K0.1.2⟩ f2 (h.2.1 c1_0))
  · have f3 := (ext_is K0.2.1 (Nat.zero_lt_succ _) n_a0)
    exact gd_tR K0.2.1 (gX96_looped_51 _ _ _ ⟨K0.1.1, K0.1.2⟩ f3 (h.2.2 c1_0))
noncomputable def GX96_looped_15 (a0 : Nat) (s0 : Int32) (M : FM) : Int32 × FM :=
  let r1 : Int32 × FM := GX96_hasBit a0 (Int32.ofInt 4) (Int32.ofInt 0) M
  fi (r1.1 = 0) (
    GX96_looped_33 a0 s0 r1.2) (
    GX96_looped_33 a0 (s0 + (Int32.ofInt 32)) r1.2)
def HX96_looped_15 (a0 : Nat) (s0 : Int32) (M : FM) : Prop := (HX96_hasBit a0 (Int32.ofInt 4) (Int32.ofInt 0) M ∧ let r1 : Int32 × FM := GX96_hasBit a0 (Int32.ofInt 4) (Int32.ofInt 0) M; ((r1.1 = 0 → HX96_looped_33 a0 s0 r1.2) ∧ (¬ (r1.1 = 0) → HX96_looped_33 a0 (s0 + (Int32.ofInt 32)) r1.2)))
theorem gX96_looped_15 (a0 : Nat) (s0 : Int32) (M : FM) (T : Ty M) (n_a0 : fm_is M 99 99 a0 = true) (h : HX96_looped_15 a0 s0 M) : gd (FX96_looped_15 a0 s0 M) (GX96_looped_15 a0 s0 M) (OkR M) := by
  delta FX96_looped_15 BX96_looped_15
  refine gd_c n_a0 ?_
  refine gd_b (gX96_hasBit _ _ _ _ ⟨T.1, T.2⟩ n_a0 h.1) (fun K0 => ?_)
  refine gd_fi (fun c1_0 => ?_) (fun c1_0 => ?_)
  · have f2 := (ext_is K0.2.1 (Nat.zero_lt_succ _) n_a0)
    exact gd_tR K0.2.1 (gX96_looped_33 _ _ _ ⟨K0.1.1, K0.1.2⟩ f2 (h.2.1 c1_0))
  · have f3 := (ext_is K0.2.1 (Nat.zero_lt_succ _) n_a0)
    exact gd_tR K0.2.1 (gX96_looped_33 _ _ _ ⟨K0.1.1, K0.1.2⟩ f3 (h.2.2 c1_0))
noncomputable def GX96_looped_0 (a0 : Nat) (M : FM) : Int32 × FM :=
  let r1 : Int32 × FM := GX96_hasBit a0 (Int32.ofInt 4) (Int32.ofInt 1) M
  fi (r1.1 = 0) (
    GX96_looped_15 a0 (Int32.ofInt 0) r1.2) (
    GX96_looped_15 a0 (Int32.ofInt 16) r1.2)
def HX96_looped_0 (a0 : Nat) (M : FM) : Prop := (HX96_hasBit a0 (Int32.ofInt 4) (Int32.ofInt 1) M ∧ let r1 : Int32 × FM := GX96_hasBit a0 (Int32.ofInt 4) (Int32.ofInt 1) M; ((r1.1 = 0 → HX96_looped_15 a0 (Int32.ofInt 0) r1.2) ∧ (¬ (r1.1 = 0) → HX96_looped_15 a0 (Int32.ofInt 16) r1.2)))
theorem gX96_looped_0 (a0 : Nat) (M : FM) (T : Ty M) (n_a0 : fm_is M 99 99 a0 = true) (h : HX96_looped_0 a0 M) : gd (FX96_looped_0 a0 M) (GX96_looped_0 a0 M) (OkR M) := by
  delta FX96_looped_0 BX96_looped_0
  refine gd_c n_a0 ?_
  refine gd_b (gX96_hasBit _ _ _ _ ⟨T.1, T.2⟩ n_a0 h.1) (fun K0 => ?_)
  refine gd_fi (fun c1_0 => ?_) (fun c1_0 => ?_)
  · have f2 := (ext_is K0.2.1 (Nat.zero_lt_succ _) n_a0)
    exact gd_tR K0.2.1 (gX96_looped_15 _ _ _ ⟨K0.1.1, K0.1.2⟩ f2 (h.2.1 c1_0))
  · have f3 := (ext_is K0.2.1 (Nat.zero_lt_succ _) n_a0)
    exact gd_tR K0.2.1 (gX96_looped_15 _ _ _ ⟨K0.1.1, K0.1.2⟩ f3 (h.2.2 c1_0))
noncomputable def GX96_looped (a0 : Nat) (M : FM) : Int32 × FM := GX96_looped_0 a0 M
def HX96_looped (a0 : Nat) (M : FM) : Prop := HX96_looped_0 a0 M
theorem gX96_looped (a0 : Nat) (M : FM) (T : Ty M) (n_a0 : fm_is M 99 99 a0 = true) (h : HX96_looped a0 M) : gd (FX96_looped a0 M) (GX96_looped a0 M) (OkR M) := gX96_looped_0 a0 M T n_a0 h
noncomputable def GX96_readSerial_107 (a0 : Nat) (a1 : Int32) (M : FM) : Int64 × FM :=
  let x1 : Nat := (M.2.2 405 a0 0)
  ((M.1 3 x1 a1.toNatClampNeg).toInt64, M)
def HX96_readSerial_107 (a0 : Nat) (a1 : Int32) (M : FM) : Prop := let x1 : Nat := (M.2.2 405 a0 0); (fm_in M x1 a1 = true ∧ True)
theorem gX96_readSerial_107 (a0 : Nat) (a1 : Int32) (M : FM) (T : Ty M) (n_a0 : fm_is M 99 99 a0 = true) (h : HX96_readSerial_107 a0 a1 M) : gd (FX96_readSerial_107 fN a0 a1 M) (GX96_readSerial_107 a0 a1 M) (OkR M) := by
  delta FX96_readSerial_107 BX96_readSerial_107
  refine gd_c n_a0 ?_
  have f0 := (tN_405 T.1 n_a0)
  refine gd_c ⟨f0, h.1⟩ ?_
  exact ⟨rfl, ⟨T.1, T.2⟩, (ext_r _)⟩
noncomputable def GX96_readSerial_106 (s0 : Int64) (M : FM) : Int64 × FM :=
  (s0, M)
theorem gX96_readSerial_106 (s0 : Int64) (M : FM) (T : Ty M) : gd (FX96_readSerial_106 fN s0 M) (GX96_readSerial_106 s0 M) (OkR M) := by
  delta FX96_readSerial_106 BX96_readSerial_106
  exact ⟨rfl, ⟨T.1, T.2⟩, (ext_r _)⟩
noncomputable def GX96_readSerial_23 (a0 : Nat) (a1 : Int32) (M : FM) : Int64 × FM :=
  fi (a1 = (Int32.ofInt 0)) (
    let r1 : Int32 × FM := GX96_takeOut a0 M
    (r1.1.toInt64, r1.2)) (
    fi (a1 = (Int32.ofInt 1)) (
      GX96_readSerial_107 a0 a1 M) (
      fi (a1 = (Int32.ofInt 2)) (
        let r2 : Int32 × FM := GX96_readCause a0 M
        (r2.1.toInt64, r2.2)) (
        fi (a1 = (Int32.ofInt 3)) (
          GX96_readSerial_107 a0 a1 M) (
          fi (a1 = (Int32.ofInt 4)) (
            GX96_readSerial_107 a0 a1 M) (
            fi (a1 = (Int32.ofInt 5)) (
              let r3 : Int32 × FM := GX96_readState a0 M
              (r3.1.toInt64, r3.2)) (
              fi (a1 = (Int32.ofInt 6)) (
                let r4 : Int32 × FM := GX96_hasBit a0 (Int32.ofInt 4) (Int32.ofInt 4) M
                fi (r4.1 = 0) (
                  GX96_readSerial_106 (Int64.ofInt 176) r4.2) (
                  let r5 : Int32 × FM := GX96_looped a0 r4.2
                  GX96_readSerial_106 r5.1.toInt64 r5.2)) (
                GX96_readSerial_107 a0 a1 M)))))))
def HX96_readSerial_23 (a0 : Nat) (a1 : Int32) (M : FM) : Prop := ((a1 = (Int32.ofInt 0) → (HX96_takeOut a0 M ∧ True)) ∧ (¬ (a1 = (Int32.ofInt 0)) → ((a1 = (Int32.ofInt 1) → HX96_readSerial_107 a0 a1 M) ∧ (¬ (a1 = (Int32.ofInt 1)) → ((a1 = (Int32.ofInt 2) → (HX96_readCause a0 M ∧ True)) ∧ (¬ (a1 = (Int32.ofInt 2)) → ((a1 = (Int32.ofInt 3) → HX96_readSerial_107 a0 a1 M) ∧ (¬ (a1 = (Int32.ofInt 3)) → ((a1 = (Int32.ofInt 4) → HX96_readSerial_107 a0 a1 M) ∧ (¬ (a1 = (Int32.ofInt 4)) → ((a1 = (Int32.ofInt 5) → True) ∧ (¬ (a1 = (Int32.ofInt 5)) → ((a1 = (Int32.ofInt 6) → (HX96_hasBit a0 (Int32.ofInt 4) (Int32.ofInt 4) M ∧ let r4 : Int32 × FM := GX96_hasBit a0 (Int32.ofInt 4) (Int32.ofInt 4) M; ((r4.1 = 0 → True) ∧ (¬ (r4.1 = 0) → (HX96_looped a0 r4.2 ∧ True))))) ∧ (¬ (a1 = (Int32.ofInt 6)) → HX96_readSerial_107 a0 a1 M))))))))))))))
theorem gX96_readSerial_23 (a0 : Nat) (a1 : Int32) (M : FM) (T : Ty M) (n_a0 : fm_is M 99 99 a0 = true) (h : HX96_readSerial_23 a0 a1 M) : gd (FX96_readSerial_23 fN a0 a1 M) (GX96_readSerial_23 a0 a1 M) (OkR M) := by
  delta FX96_readSerial_23 BX96_readSerial_23
  refine gd_fi (fun c0_0 => ?_) (fun c0_0 => ?_)
  · refine gd_c n_a0 ?_
    refine gd_b (gX96_takeOut _ _ (h.1 c0_0).1) (fun K1 => ?_)
    exact ⟨rfl, ⟨K1.1.1, K1.1.2⟩, K1.2⟩
  · refine gd_fi (fun c2_1 => ?_) (fun c2_1 => ?_)
    · exact gd_tR (ext_r _) (gX96_readSerial_107 _ _ _ ⟨T.1, T.2⟩ n_a0 ((h.2 c0_0).1 c2_1))
    · refine gd_fi (fun c3_2 => ?_) (fun c3_2 => ?_)
      · refine gd_c n_a0 ?_
        refine gd_b (gX96_readCause _ _ ⟨T.1, T.2⟩ n_a0 (((h.2 c0_0).2 c2_1).1 c3_2).1) (fun K4 => ?_)
        exact ⟨rfl, ⟨K4.1.1, K4.1.2⟩, K4.2⟩
      · refine gd_fi (fun c5_3 => ?_) (fun c5_3 => ?_)
        · exact gd_tR (ext_r _) (gX96_readSerial_107 _ _ _ ⟨T.1, T.2⟩ n_a0 ((((h.2 c0_0).2 c2_1).2 c3_2).1 c5_3))
        · refine gd_fi (fun c6_4 => ?_) (fun c6_4 => ?_)
          · exact gd_tR (ext_r _) (gX96_readSerial_107 _ _ _ ⟨T.1, T.2⟩ n_a0 (((((h.2 c0_0).2 c2_1).2 c3_2).2 c5_3).1 c6_4))
          · refine gd_fi (fun c7_5 => ?_) (fun c7_5 => ?_)
            · refine gd_c n_a0 ?_
              refine gd_b (gX96_readState _ _ ⟨T.1, T.2⟩ n_a0 ) (fun K8 => ?_)
              exact ⟨rfl, ⟨K8.1.1, K8.1.2⟩, K8.2⟩
            · refine gd_fi (fun c9_6 => ?_) (fun c9_6 => ?_)
              · refine gd_c n_a0 ?_
                refine gd_b (gX96_hasBit _ _ _ _ ⟨T.1, T.2⟩ n_a0 (((((((h.2 c0_0).2 c2_1).2 c3_2).2 c5_3).2 c6_4).2 c7_5).1 c9_6).1) (fun K10 => ?_)
                refine gd_fi (fun c11_0 => ?_) (fun c11_0 => ?_)
                · exact gd_tR K10.2.1 (gX96_readSerial_106 _ _ ⟨K10.1.1, K10.1.2⟩  )
                · have f12 := (ext_is K10.2.1 (Nat.zero_lt_succ _) n_a0)
                  refine gd_c f12 ?_
                  have f14 := (ext_is K10.2.1 (Nat.zero_lt_succ _) n_a0)
                  refine gd_b (gX96_looped _ _ ⟨K10.1.1, K10.1.2⟩ f14 ((((((((h.2 c0_0).2 c2_1).2 c3_2).2 c5_3).2 c6_4).2 c7_5).1 c9_6).2.2 c11_0).1) (fun K13 => ?_)
                  exact gd_tR (ext_tr K10.2.1 K13.2) (gX96_readSerial_106 _ _ ⟨K13.1.1, K13.1.2⟩  )
              · exact gd_tR (ext_r _) (gX96_readSerial_107 _ _ _ ⟨T.1, T.2⟩ n_a0 (((((((h.2 c0_0).2 c2_1).2 c3_2).2 c5_3).2 c6_4).2 c7_5).2 c9_6))
noncomputable def GX96_readSerial_0 (a0 : Nat) (a1 : Int32) (M : FM) : Int64 × FM :=
  fi ((Int32.ofInt 2) ≤ a1) (
    GX96_readSerial_23 a0 a1 M) (
    let r1 : Int32 × FM := GX96_hasBit a0 (Int32.ofInt 3) (Int32.ofInt 7) M
    fi (r1.1 = 0) (
      GX96_readSerial_23 a0 a1 r1.2) (
      let x2 : Nat := (r1.2.2.2 406 a0 0)
      ((r1.2.1 3 x2 a1.toNatClampNeg).toInt64, r1.2)))
def HX96_readSerial_0 (a0 : Nat) (a1 : Int32) (M : FM) : Prop := (((Int32.ofInt 2) ≤ a1 → HX96_readSerial_23 a0 a1 M) ∧ (¬ ((Int32.ofInt 2) ≤ a1) → (HX96_hasBit a0 (Int32.ofInt 3) (Int32.ofInt 7) M ∧ let r1 : Int32 × FM := GX96_hasBit a0 (Int32.ofInt 3) (Int32.ofInt 7) M; ((r1.1 = 0 → HX96_readSerial_23 a0 a1 r1.2) ∧ (¬ (r1.1 = 0) → let x2 : Nat := (r1.2.2.2 406 a0 0); (fm_in r1.2 x2 a1 = true ∧ True))))))
theorem gX96_readSerial_0 (a0 : Nat) (a1 : Int32) (M : FM) (T : Ty M) (n_a0 : fm_is M 99 99 a0 = true) (h : HX96_readSerial_0 a0 a1 M) : gd (FX96_readSerial_0 fN a0 a1 M) (GX96_readSerial_0 a0 a1 M) (OkR M) := by
  delta FX96_readSerial_0 BX96_readSerial_0
  refine gd_fi (fun c0_0 => ?_) (fun c0_0 => ?_)
  · exact gd_tR (ext_r _) (gX96_readSerial_23 _ _ _ ⟨T.1, T.2⟩ n_a0 (h.1 c0_0))
  · refine gd_c n_a0 ?_
    refine gd_b (gX96_hasBit _ _ _ _ ⟨T.1, T.2⟩ n_a0 (h.2 c0_0).1) (fun K1 => ?_)
    refine gd_fi (fun c2_0 => ?_) (fun c2_0 => ?_)
    · have f3 := (ext_is K1.2.1 (Nat.zero_lt_succ _) n_a0)
      exact gd_tR K1.2.1 (gX96_readSerial_23 _ _ _ ⟨K1.1.1, K1.1.2⟩ f3 ((h.2 c0_0).2.1 c2_0))
    · have f4 := (ext_is K1.2.1 (Nat.zero_lt_succ _) n_a0)
      refine gd_c f4 ?_
      have f5 := (tN_406 K1.1.1 (ext_is K1.2.1 (Nat.zero_lt_succ _) n_a0))
      have f6 := ((h.2 c0_0).2.2 c2_0).1
      refine gd_c ⟨f5, f6⟩ ?_
      exact ⟨rfl, ⟨K1.1.1, K1.1.2⟩, K1.2.1⟩
noncomputable def GX96_readSerial (a0 : Nat) (a1 : Int32) (M : FM) : Int64 × FM := GX96_readSerial_0 a0 a1 M
def HX96_readSerial (a0 : Nat) (a1 : Int32) (M : FM) : Prop := HX96_readSerial_0 a0 a1 M
theorem gX96_readSerial (a0 : Nat) (a1 : Int32) (M : FM) (T : Ty M) (n_a0 : fm_is M 99 99 a0 = true) (h : HX96_readSerial a0 a1 M) : gd (FX96_readSerial fN a0 a1 M) (GX96_readSerial a0 a1 M) (OkR M) := gX96_readSerial_0 a0 a1 M T n_a0 h
noncomputable def GX96_read_94 (a0 : Nat) (a5 : Int64) (M : FM) : Int64 × FM :=
  let M1 : FM := GX96_settle a0 M
  (a5, M1)
def HX96_read_94 (a0 : Nat) (a5 : Int64) (M : FM) : Prop := (HX96_settle a0 M ∧ True)
theorem gX96_read_94 (a0 : Nat) (a5 : Int64) (M : FM) (T : Ty M) (n_a0 : fm_is M 99 99 a0 = true) (h : HX96_read_94 a0 a5 M) : gd (FX96_read_94 fN a0 a5 M) (GX96_read_94 a0 a5 M) (OkR M) := by
  delta FX96_read_94 BX96_read_94
  refine gd_c n_a0 ?_
  refine gd_b (gX96_settle _ _ h.1) (fun K0 => ?_)
  exact ⟨rfl, ⟨K0.1.1, K0.1.2⟩, K0.2⟩
noncomputable def GX96_read_67 (a0 : Nat) (s0 : Int64) (M : FM) : Int64 × FM :=
  GX96_read_94 a0 s0 M
def HX96_read_67 (a0 : Nat) (s0 : Int64) (M : FM) : Prop := HX96_read_94 a0 s0 M
theorem gX96_read_67 (a0 : Nat) (s0 : Int64) (M : FM) (T : Ty M) (n_a0 : fm_is M 99 99 a0 = true) (h : HX96_read_67 a0 s0 M) : gd (FX96_read_67 fN a0 s0 M) (GX96_read_67 a0 s0 M) (OkR M) := by
  delta FX96_read_67 BX96_read_67
  exact gd_tR (ext_r _) (gX96_read_94 _ _ _ ⟨T.1, T.2⟩ n_a0 h)
noncomputable def GX96_read_16 (a0 : Nat) (a1 : Int32) (a2 : Int64) (a4 : Int32) (s0 : Nat) (s1 : Int32) (M : FM) : Int64 × FM :=
  let M1 : FM := fm_sI M 394 s0 0 s1
  fi ((M1.1 394 a0 0) ≤ 0) (
    fi (a1 = 0) (
      let r2 : Int64 × FM := GX96_readTimer a0 a2 a4 M1
      GX96_read_94 a0 r2.1 r2.2) (
      fi (a1 = (Int32.ofInt 1)) (
        fi (a4 = (Int32.ofInt 4)) (
          let r3 : Int64 × FM := GX96_readController a0 a2 M1
          GX96_read_67 a0 r3.1 r3.2) (
          GX96_read_67 a0 (Int64.ofInt 0) M1)) (
        fi (a4 = (Int32.ofInt 1)) (
          fi (0 ≤ (lg_cmp a2 (Int64.ofInt 8))) (
            GX96_read_94 a0 (Int64.ofInt 0) M1) (
            let r4 : Int64 × FM := GX96_readSerial a0 a2.toInt32 M1
            GX96_read_94 a0 r4.1 r4.2)) (
          GX96_read_94 a0 (Int64.ofInt 0) M1)))) (
    ((Int64.ofInt 0), M1))
def HX96_read_16 (a0 : Nat) (a1 : Int32) (a2 : Int64) (a4 : Int32) (s0 : Nat) (s1 : Int32) (M : FM) : Prop := let M1 : FM := fm_sI M 394 s0 0 s1; (((M1.1 394 a0 0) ≤ 0 → ((a1 = 0 → (HX96_readTimer a0 a2 a4 M1 ∧ let r2 : Int64 × FM := GX96_readTimer a0 a2 a4 M1; HX96_read_94 a0 r2.1 r2.2)) ∧ (¬ (a1 = 0) → ((a1 = (Int32.ofInt 1) → ((a4 = (Int32.ofInt 4) → (HX96_readController a0 a2 M1 ∧ let r3 : Int64 × FM := GX96_readController a0 a2 M1; HX96_read_67 a0 r3.1 r3.2)) ∧ (¬ (a4 = (Int32.ofInt 4)) → HX96_read_67 a0 (Int64.ofInt 0) M1))) ∧ (¬ (a1 = (Int32.ofInt 1)) → ((a4 = (Int32.ofInt 1) → ((0 ≤ (lg_cmp a2 (Int64.ofInt 8)) → HX96_read_94 a0 (Int64.ofInt 0) M1) ∧ (¬ (0 ≤ (lg_cmp a2 (Int64.ofInt 8))) → (HX96_readSerial a0 a2.toInt32 M1 ∧ let r4 : Int64 × FM := GX96_readSerial a0 a2.toInt32 M1; HX96_read_94 a0 r4.1 r4.2)))) ∧ (¬ (a4 = (Int32.ofInt 1)) → HX96_read_94 a0 (Int64.ofInt 0) M1))))))) ∧ (¬ ((M1.1 394 a0 0) ≤ 0) → True))
theorem gX96_read_16 (a0 : Nat) (a1 : Int32) (a2 : Int64) (a4 : Int32) (s0 : Nat) (s1 : Int32) (M : FM) (T : Ty M) (n_s0 : fm_is M 99 99 s0 = true) (n_a0 : fm_is M 99 99 a0 = true) (h : HX96_read_16 a0 a1 a2 a4 s0 s1 M) : gd (FX96_read_16 fN a0 a1 a2 a4 s0 s1 M) (GX96_read_16 a0 a1 a2 a4 s0 s1 M) (OkR M) := by
  delta FX96_read_16 BX96_read_16
  refine gd_c n_s0 ?_
  refine gd_c n_a0 ?_
  refine gd_fi (fun c0_0 => ?_) (fun c0_0 => ?_)
  · refine gd_fi (fun c1_0 => ?_) (fun c1_0 => ?_)
    · refine gd_c n_a0 ?_
      refine gd_b (gX96_readTimer _ _ _ _ ⟨T.1, (tyb_sI (f := 394) rfl T.2)⟩ n_a0 ((h.1 c0_0).1 c1_0).1) (fun K2 => ?_)
      have f3 := (ext_is K2.2 (Nat.zero_lt_succ _) n_a0)
      exact gd_tR (ext_dI K2.2) (gX96_read_94 _ _ _ ⟨K2.1.1, K2.1.2⟩ f3 ((h.1 c0_0).1 c1_0).2)
    · refine gd_fi (fun c4_0 => ?_) (fun c4_0 => ?_)
      · refine gd_fi (fun c5_0 => ?_) (fun c5_0 => ?_)
        · refine gd_c n_a0 ?_
          refine gd_b (gX96_readController _ _ _ ⟨T.1, (tyb_sI (f := 394) rfl T.2)⟩ n_a0 ((((h.1 c0_0).2 c1_0).1 c4_0).1 c5_0).1) (fun K6 => ?_)
          have f7 := (ext_is K6.2 (Nat.zero_lt_succ _) n_a0)
          exact gd_tR (ext_dI K6.2) (gX96_read_67 _ _ _ ⟨K6.1.1, K6.1.2⟩ f7 ((((h.1 c0_0).2 c1_0).1 c4_0).1 c5_0).2)
        · exact gd_tR (ext_dI (ext_r _)) (gX96_read_67 _ _ _ ⟨T.1, (tyb_sI (f := 394) rfl T.2)⟩ n_a0 ((((h.1 c0_0).2 c1_0).1 c4_0).2 c5_0))
      · refine gd_fi (fun c8_0 => ?_) (fun c8_0 => ?_)
        · refine gd_fi (fun c9_0 => ?_) (fun c9_0 => ?_)
          · exact gd_tR (ext_dI (ext_r _)) (gX96_read_94 _ _ _ ⟨T.1, (tyb_sI (f := 394) rfl T.2)⟩ n_a0 (((((h.1 c0_0).2 c1_0).2 c4_0).1 c8_0).1 c9_0))
          · refine gd_c n_a0 ?_
            refine gd_b (gX96_readSerial _ _ _ ⟨T.1, (tyb_sI (f := 394) rfl T.2)⟩ n_a0 (((((h.1 c0_0).2 c1_0).2 c4_0).1 c8_0).2 c9_0).1) (fun K10 => ?_)
            have f11 := (ext_is K10.2 (Nat.zero_lt_succ _) n_a0)
            exact gd_tR (ext_dI K10.2) (gX96_read_94 _ _ _ ⟨K10.1.1, K10.1.2⟩ f11 (((((h.1 c0_0).2 c1_0).2 c4_0).1 c8_0).2 c9_0).2)
        · exact gd_tR (ext_dI (ext_r _)) (gX96_read_94 _ _ _ ⟨T.1, (tyb_sI (f := 394) rfl T.2)⟩ n_a0 ((((h.1 c0_0).2 c1_0).2 c4_0).2 c8_0))
  · exact ⟨rfl, ⟨T.1, (tyb_sI (f := 394) rfl T.2)⟩, (ext_dI (ext_r _))⟩
noncomputable def GX96_read_0 (a0 : Nat) (a1 : Int32) (a2 : Int64) (a4 : Int32) (M : FM) : Int64 × FM :=
  let r1 : Int32 × FM := GX96_isProper a1 a2 a4 M
  fi (r1.1 = 0) (
    GX96_read_16 a0 a1 a2 a4 a0 (Int32.ofInt 1) r1.2) (
    GX96_read_16 a0 a1 a2 a4 a0 (Int32.ofInt 0) r1.2)
def HX96_read_0 (a0 : Nat) (a1 : Int32) (a2 : Int64) (a4 : Int32) (M : FM) : Prop := let r1 : Int32 × FM := GX96_isProper a1 a2 a4 M; ((r1.1 = 0 → HX96_read_16 a0 a1 a2 a4 a0 (Int32.ofInt 1) r1.2) ∧ (¬ (r1.1 = 0) → HX96_read_16 a0 a1 a2 a4 a0 (Int32.ofInt 0) r1.2))
theorem gX96_read_0 (a0 : Nat) (a1 : Int32) (a2 : Int64) (a4 : Int32) (M : FM) (T : Ty M) (n_a0 : fm_is M 99 99 a0 = true) (h : HX96_read_0 a0 a1 a2 a4 M) : gd (FX96_read_0 fN a0 a1 a2 a4 M) (GX96_read_0 a0 a1 a2 a4 M) (OkR M) := by
  delta FX96_read_0 BX96_read_0
  refine gd_b (gX96_isProper _ _ _ _ ⟨T.1, T.2⟩  ) (fun K0 => ?_)
  refine gd_fi (fun c1_0 => ?_) (fun c1_0 => ?_)
  · have f2 := (ext_is K0.2.1 (Nat.zero_lt_succ _) n_a0)
    have f3 := (ext_is K0.2.1 (Nat.zero_lt_succ _) n_a0)
    exact gd_tR K0.2.1 (gX96_read_16 _ _ _ _ _ _ _ ⟨K0.1.1, K0.1.2⟩ f2 f3 (h.1 c1_0))
  · have f4 := (ext_is K0.2.1 (Nat.zero_lt_succ _) n_a0)
    have f5 := (ext_is K0.2.1 (Nat.zero_lt_succ _) n_a0)
    exact gd_tR K0.2.1 (gX96_read_16 _ _ _ _ _ _ _ ⟨K0.1.1, K0.1.2⟩ f4 f5 (h.2 c1_0))
noncomputable def GX96_read (a0 : Nat) (a1 : Int32) (a2 : Int64) (a4 : Int32) (M : FM) : Int64 × FM := GX96_read_0 a0 a1 a2 a4 M
def HX96_read (a0 : Nat) (a1 : Int32) (a2 : Int64) (a4 : Int32) (M : FM) : Prop := HX96_read_0 a0 a1 a2 a4 M
theorem gX96_read (a0 : Nat) (a1 : Int32) (a2 : Int64) (a4 : Int32) (M : FM) (T : Ty M) (n_a0 : fm_is M 99 99 a0 = true) (h : HX96_read a0 a1 a2 a4 M) : gd (FX96_read fN a0 a1 a2 a4 M) (GX96_read a0 a1 a2 a4 M) (OkR M) := gX96_read_0 a0 a1 a2 a4 M T n_a0 h
noncomputable def GX95_read_159 (s0 : Int32) (M : FM) : Int32 × FM :=
  (s0, M)
theorem gX95_read_159 (s0 : Int32) (M : FM) (T : Ty M) : gd (FX95_read_159 s0 M) (GX95_read_159 s0 M) (OkR M) := by
  delta FX95_read_159 BX95_read_159
  exact ⟨rfl, ⟨T.1, T.2⟩, (ext_r _)⟩
noncomputable def GX95_read_158 (M : FM) : Int32 × FM :=
  GX95_read_159 (Int32.ofInt 0) M
theorem gX95_read_158 (M : FM) (T : Ty M) : gd (FX95_read_158 M) (GX95_read_158 M) (OkR M) := by
  delta FX95_read_158 BX95_read_158
  exact gd_tR (ext_r _) (gX95_read_159 _ _ ⟨T.1, T.2⟩  )
noncomputable def GX95_read_139 (s0 : Int32) (M : FM) : Int32 × FM :=
  (s0, M)
theorem gX95_read_139 (s0 : Int32) (M : FM) (T : Ty M) : gd (FX95_read_139 s0 M) (GX95_read_139 s0 M) (OkR M) := by
  delta FX95_read_139 BX95_read_139
  exact ⟨rfl, ⟨T.1, T.2⟩, (ext_r _)⟩
noncomputable def GX95_read_125 (s0 : Int32) (M : FM) : Int32 × FM :=
  (s0, M)
theorem gX95_read_125 (s0 : Int32) (M : FM) (T : Ty M) : gd (FX95_read_125 s0 M) (GX95_read_125 s0 M) (OkR M) := by
  delta FX95_read_125 BX95_read_125
  exact ⟨rfl, ⟨T.1, T.2⟩, (ext_r _)⟩
noncomputable def GX95_read_0 (a0 : Nat) (a1 : Int32) (M : FM) : Int32 × FM :=
  let r1 : Int32 × FM := GX95_noOffset a0 a1 M
  fi (r1.1 = 0) (
    fi (a1 = (Int32.ofInt 0)) (
      ((Int32.ofInt 1953655158), r1.2)) (
      fi (a1 = (Int32.ofInt 4)) (
        ((Int32.ofInt 2), r1.2)) (
        fi (a1 = (Int32.ofInt 8)) (
          ((Int32.ofInt 2), r1.2)) (
          fi (a1 = (Int32.ofInt 16)) (
            fi ((r1.2.1 329 a0 0) = 0) (
              GX95_read_125 (Int32.ofInt 512) r1.2) (
              fi ((r1.2.1 329 a0 0) = (Int32.ofInt 1)) (
                GX95_read_125 (Int32.ofInt 1) r1.2) (
                GX95_read_125 (Int32.ofInt 0) r1.2))) (
            fi (a1 = (Int32.ofInt 52)) (
              fi ((r1.2.1 328 a0 0) = 0) (
                GX95_read_139 (Int32.ofInt 16) r1.2) (
                GX95_read_139 (Int32.ofInt 0) r1.2)) (
              fi (a1 = (Int32.ofInt 68)) (
                fi ((r1.2.1 331 a0 0) = 0) (
                  GX95_read_158 r1.2) (
                  fi ((r1.2.1 328 a0 0) = 0) (
                    GX95_read_159 (Int32.ofInt 1) r1.2) (
                    GX95_read_158 r1.2))) (
                fi (a1 = (Int32.ofInt 96)) (
                  ((r1.2.1 332 a0 0), r1.2)) (
                  fi (a1 = (Int32.ofInt 112)) (
                    ((r1.2.1 333 a0 0), r1.2)) (
                    fi (a1 = (Int32.ofInt 256)) (
                      ((r1.2.1 325 a0 0), r1.2)) (
                      ((Int32.ofInt 0), r1.2))))))))))) (
    ((Int32.ofInt 0), r1.2))
theorem gX95_read_0 (a0 : Nat) (a1 : Int32) (M : FM) (T : Ty M) (n_a0 : fm_is M 93 93 a0 = true) : gd (FX95_read_0 a0 a1 M) (GX95_read_0 a0 a1 M) (OkR M) := by
  delta FX95_read_0 BX95_read_0
  refine gd_c n_a0 ?_
  refine gd_b (gX95_noOffset _ _ _ ⟨T.1, T.2⟩ n_a0 ) (fun K0 => ?_)
  refine gd_fi (fun c1_0 => ?_) (fun c1_0 => ?_)
  · refine gd_fi (fun c2_0 => ?_) (fun c2_0 => ?_)
    · exact ⟨rfl, ⟨K0.1.1, K0.1.2⟩, K0.2.1⟩
    · refine gd_fi (fun c3_1 => ?_) (fun c3_1 => ?_)
      · exact ⟨rfl, ⟨K0.1.1, K0.1.2⟩, K0.2.1⟩
      · refine gd_fi (fun c4_2 => ?_) (fun c4_2 => ?_)
        · exact ⟨rfl, ⟨K0.1.1, K0.1.2⟩, K0.2.1⟩
        · refine gd_fi (fun c5_3 => ?_) (fun c5_3 => ?_)
          · have f6 := (ext_is K0.2.1 (Nat.zero_lt_succ _) n_a0)
            refine gd_c f6 ?_
            refine gd_fi (fun c7_0 => ?_) (fun c7_0 => ?_)
            · exact gd_tR K0.2.1 (gX95_read_125 _ _ ⟨K0.1.1, K0.1.2⟩  )
            · have f8 := (ext_is K0.2.1 (Nat.zero_lt_succ _) n_a0)
              refine gd_c f8 ?_
              refine gd_fi (fun c9_0 => ?_) (fun c9_0 => ?_)
              · exact gd_tR K0.2.1 (gX95_read_125 _ _ ⟨K0.1.1, K0.1.2⟩  )
              · exact gd_tR K0.2.1 (gX95_read_125 _ _ ⟨K0.1.1, K0.1.2⟩  )
          · refine gd_fi (fun c10_4 => ?_) (fun c10_4 => ?_)
            · have f11 := (ext_is K0.2.1 (Nat.zero_lt_succ _) n_a0)
              refine gd_c f11 ?_
              refine gd_fi (fun c12_0 => ?_) (fun c12_0 => ?_)
              · exact gd_tR K0.2.1 (gX95_read_139 _ _ ⟨K0.1.1, K0.1.2⟩  )
              · exact gd_tR K0.2.1 (gX95_read_139 _ _ ⟨K0.1.1, K0.1.2⟩  )
            · refine gd_fi (fun c13_5 => ?_) (fun c13_5 => ?_)
              · have f14 := (ext_is K0.2.1 (Nat.zero_lt_succ _) n_a0)
                refine gd_c f14 ?_
                refine gd_fi (fun c15_0 => ?_) (fun c15_0 => ?_)
                · exact gd_tR K0.2.1 (gX95_read_158  _ ⟨K0.1.1, K0.1.2⟩  )
                · have f16 := (ext_is K0.2.1 (Nat.zero_lt_succ _) n_a0)
                  refine gd_c f16 ?_
                  refine gd_fi (fun c17_0 => ?_) (fun c17_0 => ?_)
                  · exact gd_tR K0.2.1 (gX95_read_159 _ _ ⟨K0.1.1, K0.1.2⟩  )
                  · exact gd_tR K0.2.1 (gX95_read_158  _ ⟨K0.1.1, K0.1.2⟩  )
              · refine gd_fi (fun c18_6 => ?_) (fun c18_6 => ?_)
                · have f19 := (ext_is K0.2.1 (Nat.zero_lt_succ _) n_a0)
                  refine gd_c f19 ?_
                  exact ⟨rfl, ⟨K0.1.1, K0.1.2⟩, K0.2.1⟩
                · refine gd_fi (fun c20_7 => ?_) (fun c20_7 => ?_)
                  · have f21 := (ext_is K0.2.1 (Nat.zero_lt_succ _) n_a0)
                    refine gd_c f21 ?_
                    exact ⟨rfl, ⟨K0.1.1, K0.1.2⟩, K0.2.1⟩
                  · refine gd_fi (fun c22_8 => ?_) (fun c22_8 => ?_)
                    · have f23 := (ext_is K0.2.1 (Nat.zero_lt_succ _) n_a0)
                      refine gd_c f23 ?_
                      exact ⟨rfl, ⟨K0.1.1, K0.1.2⟩, K0.2.1⟩
                    · exact ⟨rfl, ⟨K0.1.1, K0.1.2⟩, K0.2.1⟩
  · exact ⟨rfl, ⟨K0.1.1, K0.1.2⟩, K0.2.1⟩
noncomputable def GX95_read (a0 : Nat) (a1 : Int32) (M : FM) : Int32 × FM := GX95_read_0 a0 a1 M
theorem gX95_read (a0 : Nat) (a1 : Int32) (M : FM) (T : Ty M) (n_a0 : fm_is M 93 93 a0 = true) : gd (FX95_read a0 a1 M) (GX95_read a0 a1 M) (OkR M) := gX95_read_0 a0 a1 M T n_a0 
noncomputable def GX92_readWindow_76 (s0 : Int64) (M : FM) : Int64 × FM :=
  (s0, M)
theorem gX92_readWindow_76 (s0 : Int64) (M : FM) (T : Ty M) : gd (FX92_readWindow_76 fN s0 M) (GX92_readWindow_76 s0 M) (OkR M) := by
  delta FX92_readWindow_76 BX92_readWindow_76
  exact ⟨rfl, ⟨T.1, T.2⟩, (ext_r _)⟩
noncomputable def GX92_readWindow_75 (M : FM) : Int64 × FM :=
  GX92_readWindow_76 (Int64.ofInt 0) M
theorem gX92_readWindow_75 (M : FM) (T : Ty M) : gd (FX92_readWindow_75 fN M) (GX92_readWindow_75 M) (OkR M) := by
  delta FX92_readWindow_75 BX92_readWindow_75
  exact gd_tR (ext_r _) (gX92_readWindow_76 _ _ ⟨T.1, T.2⟩  )
noncomputable def GX92_readWindow_42 (a0 : Nat) (a3 : Int32) (a4 : Int32) (a5 : Int64) (M : FM) : Int64 × FM :=
  fi (a4 = (Int32.ofInt 4)) (
    let r1 : Int32 × FM := GX92_isDiskRegister a5 a3 M
    fi (r1.1 = 0) (
      GX92_readWindow_75 r1.2) (
      let x2 : Nat := (r1.2.2.2 300 a0 0)
      let r3 : Int32 × FM := GX95_read x2 a5.toInt32 r1.2
      GX92_readWindow_76 (r3.1.toInt64 &&& (Int64.ofInt 4294967295)) r3.2)) (
    GX92_readWindow_75 M)
theorem gX92_readWindow_42 (a0 : Nat) (a3 : Int32) (a4 : Int32) (a5 : Int64) (M : FM) (T : Ty M) (n_a0 : fm_is M 92 92 a0 = true) : gd (FX92_readWindow_42 fN a0 a3 a4 a5 M) (GX92_readWindow_42 a0 a3 a4 a5 M) (OkR M) := by
  delta FX92_readWindow_42 BX92_readWindow_42
  refine gd_fi (fun c0_0 => ?_) (fun c0_0 => ?_)
  · refine gd_b (gX92_isDiskRegister _ _ _ ⟨T.1, T.2⟩  ) (fun K1 => ?_)
    refine gd_fi (fun c2_0 => ?_) (fun c2_0 => ?_)
    · exact gd_tR K1.2.1 (gX92_readWindow_75  _ ⟨K1.1.1, K1.1.2⟩  )
    · have f3 := (ext_is K1.2.1 (Nat.zero_lt_succ _) n_a0)
      refine gd_c f3 ?_
      have f4 := (tN_300 K1.1.1 (ext_is K1.2.1 (Nat.zero_lt_succ _) n_a0))
      refine gd_c f4 ?_
      have f6 := (tN_300 K1.1.1 (ext_is K1.2.1 (Nat.zero_lt_succ _) n_a0))
      refine gd_b (gX95_read _ _ _ ⟨K1.1.1, K1.1.2⟩ f6 ) (fun K5 => ?_)
      exact gd_tR (ext_tr K1.2.1 K5.2) (gX92_readWindow_76 _ _ ⟨K5.1.1, K5.1.2⟩  )
  · exact gd_tR (ext_r _) (gX92_readWindow_75  _ ⟨T.1, T.2⟩  )
noncomputable def GX92_readWindow_0 (a0 : Nat) (a1 : Int64) (a3 : Int32) (M : FM) : Int64 × FM :=
  let r1 : Int32 × FM := GX92_windowOf a1 a3 M
  let r2 : Int64 × FM := GX92_baseOf r1.1 r1.2
  let x3 : Int64 := (a1 - r2.1)
  fi (r1.1 ≤ 0) (
    GX92_readWindow_42 a0 a3 r1.1 x3 r2.2) (
    fi ((Int32.ofInt 4) ≤ r1.1) (
      GX92_readWindow_42 a0 a3 r1.1 x3 r2.2) (
      let x4 : Nat := (r2.2.2.2 301 a0 0)
      let r5 : Int64 × FM := GX96_read x4 (r1.1 - (Int32.ofInt 1)) x3 a3 r2.2
      (r5.1, r5.2)))
def HX92_readWindow_0 (a0 : Nat) (a1 : Int64) (a3 : Int32) (M : FM) : Prop := (HX92_windowOf a1 a3 M ∧ let r1 : Int32 × FM := GX92_windowOf a1 a3 M; let r2 : Int64 × FM := GX92_baseOf r1.1 r1.2; let x3 : Int64 := (a1 - r2.1); ((r1.1 ≤ 0 → True) ∧ (¬ (r1.1 ≤ 0) → (((Int32.ofInt 4) ≤ r1.1 → True) ∧ (¬ ((Int32.ofInt 4) ≤ r1.1) → let x4 : Nat := (r2.2.2.2 301 a0 0); (HX96_read x4 (r1.1 - (Int32.ofInt 1)) x3 a3 r2.2 ∧ True))))))
theorem gX92_readWindow_0 (a0 : Nat) (a1 : Int64) (a3 : Int32) (M : FM) (T : Ty M) (n_a0 : fm_is M 92 92 a0 = true) (h : HX92_readWindow_0 a0 a1 a3 M) : gd (FX92_readWindow_0 fN a0 a1 a3 M) (GX92_readWindow_0 a0 a1 a3 M) (OkR M) := by
  delta FX92_readWindow_0 BX92_readWindow_0
  refine gd_b (gX92_windowOf _ _ _ h.1) (fun K0 => ?_)
  refine gd_b (gX92_baseOf _ _ ⟨K0.1.1, K0.1.2⟩  ) (fun K1 => ?_)
  refine gd_fi (fun c2_0 => ?_) (fun c2_0 => ?_)
  · have f3 := (ext_is K1.2 (Nat.zero_lt_succ _) (ext_is K0.2 (Nat.zero_lt_succ _) n_a0))
    exact gd_tR (ext_tr K0.2 K1.2) (gX92_readWindow_42 _ _ _ _ _ ⟨K1.1.1, K1.1.2⟩ f3 )
  · refine gd_fi (fun c4_0 => ?_) (fun c4_0 => ?_)
    · have f5 := (ext_is K1.2 (Nat.zero_lt_succ _) (ext_is K0.2 (Nat.zero_lt_succ _) n_a0))
      exact gd_tR (ext_tr K0.2 K1.2) (gX92_readWindow_42 _ _ _ _ _ ⟨K1.1.1, K1.1.2⟩ f5 )
    · have f6 := (ext_is K1.2 (Nat.zero_lt_succ _) (ext_is K0.2 (Nat.zero_lt_succ _) n_a0))
      refine gd_c f6 ?_
      have f7 := (tN_301 K1.1.1 (ext_is K1.2 (Nat.zero_lt_succ _) (ext_is K0.2 (Nat.zero_lt_succ _) n_a0)))
      refine gd_c f7 ?_
      have f9 := (tN_301 K1.1.1 (ext_is K1.2 (Nat.zero_lt_succ _) (ext_is K0.2 (Nat.zero_lt_succ _) n_a0)))
      refine gd_b (gX96_read _ _ _ _ _ ⟨K1.1.1, K1.1.2⟩ f9 ((h.2.2 c2_0).2 c4_0).1) (fun K8 => ?_)
      exact ⟨rfl, ⟨K8.1.1, K8.1.2⟩, (ext_tr K0.2 (ext_tr K1.2 K8.2))⟩
noncomputable def GX92_readWindow (a0 : Nat) (a1 : Int64) (a3 : Int32) (M : FM) : Int64 × FM := GX92_readWindow_0 a0 a1 a3 M
def HX92_readWindow (a0 : Nat) (a1 : Int64) (a3 : Int32) (M : FM) : Prop := HX92_readWindow_0 a0 a1 a3 M
theorem gX92_readWindow (a0 : Nat) (a1 : Int64) (a3 : Int32) (M : FM) (T : Ty M) (n_a0 : fm_is M 92 92 a0 = true) (h : HX92_readWindow a0 a1 a3 M) : gd (FX92_readWindow fN a0 a1 a3 M) (GX92_readWindow a0 a1 a3 M) (OkR M) := gX92_readWindow_0 a0 a1 a3 M T n_a0 h
def kX92_get (k57 : Nat → Int64 → Int32 → FM → Option (Int64 × FM)) : (Nat × Int64 × Int32 × FM) ⊕ (Int64 × FM) → Option (Int64 × FM)
  | .inl (v0, v1, v2, M') => k57 v0 v1 v2 M'
  | .inr (r) => some r
def pX92_get (M : FM) : (Nat × Int64 × Int32 × FM) ⊕ (Int64 × FM) → Prop
  | .inl (_, _, _, M') => OkV M M'
  | .inr (r) => OkR M r
theorem pX92_get_t {M M1 : FM} (e : Ext M M1) : ∀ y, pX92_get M1 y → pX92_get M y
  | .inl (_, _, _, _), h => ⟨h.1, ext_tr e h.2⟩
  | .inr (r), h => ⟨h.1, ext_tr e h.2⟩
noncomputable def GX92_get_49 (s0 : Int64) (M : FM) : (Nat × Int64 × Int32 × FM) ⊕ (Int64 × FM) :=
  (.inr (s0, M))
theorem gX92_get_49 (k57 : Nat → Int64 → Int32 → FM → Option (Int64 × FM)) (s0 : Int64) (M : FM) (T : Ty M) : gs (FX92_get_49 fN k57 s0 M) (GX92_get_49 s0 M) (kX92_get k57) (pX92_get M) := by
  delta FX92_get_49 BX92_get_49
  exact And.intro rfl (And.intro (And.intro T.1 T.2) ((ext_r _)))
noncomputable def GX92_get_0 (a0 : Nat) (a1 : Int32) (M : FM) : (Nat × Int64 × Int32 × FM) ⊕ (Int64 × FM) :=
  fi ((M.1 322 a0 0) = 0) (
    let x1 : Int32 := (a1 - (Int32.ofInt 1))
    (.inl (a0, (Int64.ofInt 0), x1, M))) (
    let x2 : Nat := (M.2.2 323 a0 0)
    let r3 : Int32 × FM := GX93_areBytes (M.2.1 3 x2 (Int32.ofInt 0).toNatClampNeg) a1.toInt64 M
    fi (r3.1 = 0) (
      let x4 : Nat := (r3.2.2.2 323 a0 0)
      let r5 : Int64 × FM := GX92_readWindow a0 (r3.2.2.1 3 x4 (Int32.ofInt 0).toNatClampNeg) a1 r3.2
      GX92_get_49 r5.1 r5.2) (
      let x6 : Nat := (r3.2.2.2 323 a0 0)
      let x7 : Nat := (r3.2.2.2 298 a0 0)
      let r8 : Int64 × FM := GX93_number x7 (r3.2.2.1 3 x6 (Int32.ofInt 0).toNatClampNeg) a1 r3.2
      GX92_get_49 r8.1 r8.2))
def HX92_get_0 (a0 : Nat) (a1 : Int32) (M : FM) : Prop := (((M.1 322 a0 0) = 0 → True) ∧ (¬ ((M.1 322 a0 0) = 0) → let x2 : Nat := (M.2.2 323 a0 0); let r3 : Int32 × FM := GX93_areBytes (M.2.1 3 x2 (Int32.ofInt 0).toNatClampNeg) a1.toInt64 M; ((r3.1 = 0 → let x4 : Nat := (r3.2.2.2 323 a0 0); (HX92_readWindow a0 (r3.2.2.1 3 x4 (Int32.ofInt 0).toNatClampNeg) a1 r3.2 ∧ True)) ∧ (¬ (r3.1 = 0) → let x6 : Nat := (r3.2.2.2 323 a0 0); let x7 : Nat := (r3.2.2.2 298 a0 0); (HX93_number x7 (r3.2.2.1 3 x6 (Int32.ofInt 0).toNatClampNeg) a1 r3.2 ∧ True)))))
theorem gX92_get_0 (k57 : Nat → Int64 → Int32 → FM → Option (Int64 × FM)) (a0 : Nat) (a1 : Int32) (M : FM) (T : Ty M) (n_a0 : fm_is M 92 92 a0 = true) (h : HX92_get_0 a0 a1 M) : gs (FX92_get_0 fN k57 a0 a1 M) (GX92_get_0 a0 a1 M) (kX92_get k57) (pX92_get M) := by
  delta FX92_get_0 BX92_get_0
  refine gs_c n_a0 ?_
  refine gs_fi (fun c0_0 => ?_) (fun c0_0 => ?_)
  · exact And.intro rfl (And.intro (And.intro T.1 T.2) ((ext_r _)))
  · refine gs_c n_a0 ?_
    have f15 := (tN_323 T.1 n_a0)
    have f16 := (fm_inl (i := (Int32.ofInt 0)) (tL_323 T.1 n_a0) (by decide))
    refine gs_c ⟨f15, f16⟩ ?_
    refine gs_b (gX93_areBytes _ _ _ ⟨T.1, T.2⟩  ) (fun K1 => ?_)
    refine gs_fi (fun c2_0 => ?_) (fun c2_0 => ?_)
    · have f3 := (ext_is K1.2.1 (Nat.zero_lt_succ _) n_a0)
      refine gs_c f3 ?_
      have f7 := (tN_323 K1.1.1 (ext_is K1.2.1 (Nat.zero_lt_succ _) n_a0))
      have f8 := (fm_inl (i := (Int32.ofInt 0)) (tL_323 K1.1.1 (ext_is K1.2.1 (Nat.zero_lt_succ _) n_a0)) (by decide))
      refine gs_c ⟨f7, f8⟩ ?_
      have f4 := (ext_is K1.2.1 (Nat.zero_lt_succ _) n_a0)
      refine gs_c f4 ?_
      have f6 := (ext_is K1.2.1 (Nat.zero_lt_succ _) n_a0)
      refine gs_b (gX92_readWindow _ _ _ _ ⟨K1.1.1, K1.1.2⟩ f6 ((h.2 c0_0).1 c2_0).1) (fun K5 => ?_)
      exact gs_t (pX92_get_t (ext_tr K1.2.1 K5.2)) (gX92_get_49 k57 _ _ ⟨K5.1.1, K5.1.2⟩  )
    · have f9 := (ext_is K1.2.1 (Nat.zero_lt_succ _) n_a0)
      refine gs_c f9 ?_
      have f10 := (ext_is K1.2.1 (Nat.zero_lt_succ _) n_a0)
      refine gs_c f10 ?_
      have f13 := (tN_323 K1.1.1 (ext_is K1.2.1 (Nat.zero_lt_succ _) n_a0))
      have f14 := (fm_inl (i := (Int32.ofInt 0)) (tL_323 K1.1.1 (ext_is K1.2.1 (Nat.zero_lt_succ _) n_a0)) (by decide))
      refine gs_c ⟨f13, f14⟩ ?_
      have f11 := (tN_298 K1.1.1 (ext_is K1.2.1 (Nat.zero_lt_succ _) n_a0))
      refine gs_c f11 ?_
      refine gs_b (gX93_number _ _ _ _ ((h.2 c0_0).2 c2_0).1) (fun K12 => ?_)
      exact gs_t (pX92_get_t (ext_tr K1.2.1 K12.2)) (gX92_get_49 k57 _ _ ⟨K12.1.1, K12.1.2⟩  )
noncomputable def GX92_get_57 (a0 : Nat) (a2 : Int64) (a4 : Int32) (M : FM) : (Nat × Int64 × Int32 × FM) ⊕ (Int64 × FM) :=
  fi (a4 < 0) (
    (.inr (a2, M))) (
    let x1 : Nat := (M.2.2 323 a0 0)
    let x2 : Nat := (M.2.2 298 a0 0)
    let r3 : Int32 × FM := GX93_get x2 (M.2.1 3 x1 a4.toNatClampNeg) M
    let x4 : Int64 := (((Int64.ofInt 256) * a2) + r3.1.toInt64)
    let x5 : Int32 := a4 + (Int32.ofInt (-1))
    (.inl (a0, x4, x5, r3.2)))
def HX92_get_57 (a0 : Nat) (a2 : Int64) (a4 : Int32) (M : FM) : Prop := ((a4 < 0 → True) ∧ (¬ (a4 < 0) → let x1 : Nat := (M.2.2 323 a0 0); (fm_in M x1 a4 = true ∧ let x2 : Nat := (M.2.2 298 a0 0); (HX93_get x2 (M.2.1 3 x1 a4.toNatClampNeg) M ∧ True))))
theorem gX92_get_57 (k57 : Nat → Int64 → Int32 → FM → Option (Int64 × FM)) (a0 : Nat) (a2 : Int64) (a4 : Int32) (M : FM) (T : Ty M) (n_a0 : fm_is M 92 92 a0 = true) (h : HX92_get_57 a0 a2 a4 M) : gs (FX92_get_57 fN k57 a0 a2 a4 M) (GX92_get_57 a0 a2 a4 M) (kX92_get k57) (pX92_get M) := by
  delta FX92_get_57 BX92_get_57
  refine gs_fi (fun c0_0 => ?_) (fun c0_0 => ?_)
  · exact And.intro rfl (And.intro (And.intro T.1 T.2) ((ext_r _)))
  · refine gs_c n_a0 ?_
    refine gs_c n_a0 ?_
    have f4 := (tN_323 T.1 n_a0)
    refine gs_c ⟨f4, (h.2 c0_0).1⟩ ?_
    have f1 := (tN_298 T.1 n_a0)
    refine gs_c f1 ?_
    have f3 := (tN_298 T.1 n_a0)
    refine gs_b (gX93_get _ _ _ ⟨T.1, T.2⟩ f3 (h.2 c0_0).2.1) (fun K2 => ?_)
    exact And.intro rfl (And.intro (And.intro K2.1.1 K2.1.2) K2.2)
noncomputable def GX92_get (a0 : Nat) (a1 : Int32) (M : FM) : Int64 × FM := (FX92_get fN a0 a1 M).getD (0, M)
def HX92_get (a0 : Nat) (a1 : Int32) (M : FM) : Prop := ∃ r, FX92_get fN a0 a1 M = some r ∧ OkR M r
theorem gX92_get (a0 : Nat) (a1 : Int32) (M : FM) (h : HX92_get a0 a1 M) : gd (FX92_get fN a0 a1 M) (GX92_get a0 a1 M) (OkR M) := gd_op h
noncomputable def GX99_field_0 (a0 : Int32) (a1 : Int32) (a2 : Int32) (M : FM) : Int32 × FM :=
  (((a0.toUInt32 >>> (a1.toUInt32 &&& Int32.toUInt32 31)).toInt32 &&& (((Int32.ofInt 1) <<< (a2 &&& 31)) - (Int32.ofInt 1))), M)
theorem gX99_field_0 (a0 : Int32) (a1 : Int32) (a2 : Int32) (M : FM) (T : Ty M) : gd (FX99_field_0 a0 a1 a2 M) (GX99_field_0 a0 a1 a2 M) (OkR M) := by
  delta FX99_field_0 BX99_field_0
  exact ⟨rfl, ⟨T.1, T.2⟩, (ext_r _)⟩
noncomputable def GX99_field (a0 : Int32) (a1 : Int32) (a2 : Int32) (M : FM) : Int32 × FM := GX99_field_0 a0 a1 a2 M
theorem gX99_field (a0 : Int32) (a1 : Int32) (a2 : Int32) (M : FM) (T : Ty M) : gd (FX99_field a0 a1 a2 M) (GX99_field a0 a1 a2 M) (OkR M) := gX99_field_0 a0 a1 a2 M T 
noncomputable def GX99_quiet_14 (s0 : Int64) (M : FM) : Int64 × FM :=
  (s0, M)
theorem gX99_quiet_14 (s0 : Int64) (M : FM) (T : Ty M) : gd (FX99_quiet_14 s0 M) (GX99_quiet_14 s0 M) (OkR M) := by
  delta FX99_quiet_14 BX99_quiet_14
  exact ⟨rfl, ⟨T.1, T.2⟩, (ext_r _)⟩
noncomputable def GX99_quiet_0 (a0 : Int32) (M : FM) : Int64 × FM :=
  fi (a0 = (Int32.ofInt 1)) (
    GX99_quiet_14 (Int64.ofInt 9221120237041090560) M) (
    GX99_quiet_14 (Int64.ofInt 2143289344) M)
theorem gX99_quiet_0 (a0 : Int32) (M : FM) (T : Ty M) : gd (FX99_quiet_0 a0 M) (GX99_quiet_0 a0 M) (OkR M) := by
  delta FX99_quiet_0 BX99_quiet_0
  refine gd_fi (fun c0_0 => ?_) (fun c0_0 => ?_)
  · exact gd_tR (ext_r _) (gX99_quiet_14 _ _ ⟨T.1, T.2⟩  )
  · exact gd_tR (ext_r _) (gX99_quiet_14 _ _ ⟨T.1, T.2⟩  )
noncomputable def GX99_quiet (a0 : Int32) (M : FM) : Int64 × FM := GX99_quiet_0 a0 M
theorem gX99_quiet (a0 : Int32) (M : FM) (T : Ty M) : gd (FX99_quiet a0 M) (GX99_quiet a0 M) (OkR M) := gX99_quiet_0 a0 M T 
noncomputable def GX99_bitsOf_47 (s0 : Int64) (M : FM) : Int64 × FM :=
  (s0, M)
theorem gX99_bitsOf_47 (s0 : Int64) (M : FM) (T : Ty M) : gd (FX99_bitsOf_47 s0 M) (GX99_bitsOf_47 s0 M) (OkR M) := by
  delta FX99_bitsOf_47 BX99_bitsOf_47
  exact ⟨rfl, ⟨T.1, T.2⟩, (ext_r _)⟩
noncomputable def GX99_bitsOf_0 (a0 : Nat) (a1 : Int32) (a2 : Int32) (M : FM) : Int64 × FM :=
  fi (a2 = (Int32.ofInt 1)) (
    let x1 : Nat := (M.2.2 367 a0 0)
    GX99_bitsOf_47 (M.2.1 3 x1 a1.toNatClampNeg) M) (
    let x2 : Nat := (M.2.2 367 a0 0)
    fi ((lg_cmp (((M.2.1 3 x2 a1.toNatClampNeg).toUInt64 >>> ((Int32.ofInt 32).toInt64.toUInt64 &&& Int64.toUInt64 63)).toInt64) (Int64.ofInt 4294967295)) = 0) (
      let x3 : Nat := (M.2.2 367 a0 0)
      GX99_bitsOf_47 ((M.2.1 3 x3 a1.toNatClampNeg) &&& (Int64.ofInt 4294967295)) M) (
      let r4 : Int64 × FM := GX99_quiet (Int32.ofInt 0) M
      GX99_bitsOf_47 r4.1 r4.2))
def HX99_bitsOf_0 (a0 : Nat) (a1 : Int32) (a2 : Int32) (M : FM) : Prop := ((a2 = (Int32.ofInt 1) → let x1 : Nat := (M.2.2 367 a0 0); (fm_in M x1 a1 = true ∧ True)) ∧ (¬ (a2 = (Int32.ofInt 1)) → let x2 : Nat := (M.2.2 367 a0 0); (fm_in M x2 a1 = true ∧ (((lg_cmp (((M.2.1 3 x2 a1.toNatClampNeg).toUInt64 >>> ((Int32.ofInt 32).toInt64.toUInt64 &&& Int64.toUInt64 63)).toInt64) (Int64.ofInt 4294967295)) = 0 → let x3 : Nat := (M.2.2 367 a0 0); (fm_in M x3 a1 = true ∧ True)) ∧ (¬ ((lg_cmp (((M.2.1 3 x2 a1.toNatClampNeg).toUInt64 >>> ((Int32.ofInt 32).toInt64.toUInt64 &&& Int64.toUInt64 63)).toInt64) (Int64.ofInt 4294967295)) = 0) → True)))))
theorem gX99_bitsOf_0 (a0 : Nat) (a1 : Int32) (a2 : Int32) (M : FM) (T : Ty M) (n_a0 : fm_is M 96 96 a0 = true) (h : HX99_bitsOf_0 a0 a1 a2 M) : gd (FX99_bitsOf_0 a0 a1 a2 M) (GX99_bitsOf_0 a0 a1 a2 M) (OkR M) := by
  delta FX99_bitsOf_0 BX99_bitsOf_0
  refine gd_fi (fun c0_0 => ?_) (fun c0_0 => ?_)
  · refine gd_c n_a0 ?_
    have f1 := (tN_367 T.1 n_a0)
    refine gd_c ⟨f1, (h.1 c0_0).1⟩ ?_
    exact gd_tR (ext_r _) (gX99_bitsOf_47 _ _ ⟨T.1, T.2⟩  )
  · refine gd_c n_a0 ?_
    have f6 := (tN_367 T.1 n_a0)
    refine gd_c ⟨f6, (h.2 c0_0).1⟩ ?_
    refine gd_fi (fun c2_0 => ?_) (fun c2_0 => ?_)
    · refine gd_c n_a0 ?_
      have f3 := (tN_367 T.1 n_a0)
      have f4 := ((h.2 c0_0).2.1 c2_0).1
      refine gd_c ⟨f3, f4⟩ ?_
      exact gd_tR (ext_r _) (gX99_bitsOf_47 _ _ ⟨T.1, T.2⟩  )
    · refine gd_b (gX99_quiet _ _ ⟨T.1, T.2⟩  ) (fun K5 => ?_)
      exact gd_tR K5.2 (gX99_bitsOf_47 _ _ ⟨K5.1.1, K5.1.2⟩  )
noncomputable def GX99_bitsOf (a0 : Nat) (a1 : Int32) (a2 : Int32) (M : FM) : Int64 × FM := GX99_bitsOf_0 a0 a1 a2 M
def HX99_bitsOf (a0 : Nat) (a1 : Int32) (a2 : Int32) (M : FM) : Prop := HX99_bitsOf_0 a0 a1 a2 M
theorem gX99_bitsOf (a0 : Nat) (a1 : Int32) (a2 : Int32) (M : FM) (T : Ty M) (n_a0 : fm_is M 96 96 a0 = true) (h : HX99_bitsOf a0 a1 a2 M) : gd (FX99_bitsOf a0 a1 a2 M) (GX99_bitsOf a0 a1 a2 M) (OkR M) := gX99_bitsOf_0 a0 a1 a2 M T n_a0 h
noncomputable def GX99_read_189 (s0 : Nat) (s1 : Int32) (s2 : Int32) (M : FM) : FM :=
  let M1 : FM := fm_sI M 3 s0 s1.toNatClampNeg s2
  M1
def HX99_read_189 (s0 : Nat) (s1 : Int32) (s2 : Int32) (M : FM) : Prop := (fm_in M s0 s1 = true ∧ True)
theorem gX99_read_189 (s0 : Nat) (s1 : Int32) (s2 : Int32) (M : FM) (T : Ty M) (n_s0 : fm_is M 901 901 s0 = true) (h : HX99_read_189 s0 s1 s2 M) : gd (FX99_read_189 s0 s1 s2 M) (GX99_read_189 s0 s1 s2 M) (OkV M) := by
  delta FX99_read_189 BX99_read_189
  refine gd_c ⟨n_s0, h.1⟩ ?_
  exact ⟨rfl, ⟨T.1, (tyb_s3 (t := 901) rfl T.2 n_s0)⟩, (ext_dI (ext_r _))⟩
noncomputable def GX99_read_144 (a0 : Nat) (a3 : Int32) (a6 : Int32) (a7 : Int64) (a9 : Int64) (s0 : Nat) (s1 : Int32) (M : FM) : FM :=
  let x1 : Nat := (M.2.2 374 a0 0)
  fi (0 ≤ (lg_cmp a7 ((M.1 3 x1 a3.toNatClampNeg).toInt64))) (
    fi ((lg_cmp a9 (Int64.ofInt 0)) = 0) (
      GX99_read_189 s0 s1 (Int32.ofInt 2) M) (
      fi ((lg_cmp (a9 >>> ((a6 - (Int32.ofInt 1)).toInt64 &&& 63)) (Int64.ofInt 1)) = 0) (
        GX99_read_189 s0 s1 (Int32.ofInt 3) M) (
        GX99_read_189 s0 s1 (Int32.ofInt 4) M))) (
    GX99_read_189 s0 s1 (Int32.ofInt 1) M)
def HX99_read_144 (a0 : Nat) (a3 : Int32) (a6 : Int32) (a7 : Int64) (a9 : Int64) (s0 : Nat) (s1 : Int32) (M : FM) : Prop := let x1 : Nat := (M.2.2 374 a0 0); (fm_in M x1 a3 = true ∧ ((0 ≤ (lg_cmp a7 ((M.1 3 x1 a3.toNatClampNeg).toInt64)) → (((lg_cmp a9 (Int64.ofInt 0)) = 0 → HX99_read_189 s0 s1 (Int32.ofInt 2) M) ∧ (¬ ((lg_cmp a9 (Int64.ofInt 0)) = 0) → (((lg_cmp (a9 >>> ((a6 - (Int32.ofInt 1)).toInt64 &&& 63)) (Int64.ofInt 1)) = 0 → HX99_read_189 s0 s1 (Int32.ofInt 3) M) ∧ (¬ ((lg_cmp (a9 >>> ((a6 - (Int32.ofInt 1)).toInt64 &&& 63)) (Int64.ofInt 1)) = 0) → HX99_read_189 s0 s1 (Int32.ofInt 4) M))))) ∧ (¬ (0 ≤ (lg_cmp a7 ((M.1 3 x1 a3.toNatClampNeg).toInt64))) → HX99_read_189 s0 s1 (Int32.ofInt 1) M)))
theorem gX99_read_144 (a0 : Nat) (a3 : Int32) (a6 : Int32) (a7 : Int64) (a9 : Int64) (s0 : Nat) (s1 : Int32) (M : FM) (T : Ty M) (n_a0 : fm_is M 96 96 a0 = true) (n_s0 : fm_is M 901 901 s0 = true) (h : HX99_read_144 a0 a3 a6 a7 a9 s0 s1 M) : gd (FX99_read_144 a0 a3 a6 a7 a9 s0 s1 M) (GX99_read_144 a0 a3 a6 a7 a9 s0 s1 M) (OkV M) := by
  delta FX99_read_144 BX99_read_144
  refine gd_c n_a0 ?_
  have f3 := (tN_374 T.1 n_a0)
  refine gd_c ⟨f3, h.1⟩ ?_
  refine gd_fi (fun c0_0 => ?_) (fun c0_0 => ?_)
  · refine gd_fi (fun c1_0 => ?_) (fun c1_0 => ?_)
    · exact gd_tV (ext_r _) (gX99_read_189 _ _ _ _ ⟨T.1, T.2⟩ n_s0 ((h.2.1 c0_0).1 c1_0))
    · refine gd_fi (fun c2_0 => ?_) (fun c2_0 => ?_)
      · exact gd_tV (ext_r _) (gX99_read_189 _ _ _ _ ⟨T.1, T.2⟩ n_s0 (((h.2.1 c0_0).2 c1_0).1 c2_0))
      · exact gd_tV (ext_r _) (gX99_read_189 _ _ _ _ ⟨T.1, T.2⟩ n_s0 (((h.2.1 c0_0).2 c1_0).2 c2_0))
  · exact gd_tV (ext_r _) (gX99_read_189 _ _ _ _ ⟨T.1, T.2⟩ n_s0 (h.2.2 c0_0))
noncomputable def GX99_read_110 (a0 : Nat) (a1 : Int32) (a3 : Int32) (a6 : Int32) (a7 : Int64) (a9 : Int64) (s0 : Nat) (s1 : Int32) (s2 : Int32) (M : FM) : FM :=
  let x1 : Nat := (M.2.2 373 a0 0)
  let M2 : FM := fm_sI M 3 s0 s1.toNatClampNeg ((s2 - (M.1 3 x1 a3.toNatClampNeg)) - a6)
  fi ((lg_cmp a7 (Int64.ofInt 0)) = 0) (
    fi ((lg_cmp a9 (Int64.ofInt 0)) = 0) (
      GX99_read_189 (M2.2.2 375 a0 0) a1 (Int32.ofInt 0) M2) (
      GX99_read_144 a0 a3 a6 a7 a9 (M2.2.2 375 a0 0) a1 M2)) (
    GX99_read_144 a0 a3 a6 a7 a9 (M2.2.2 375 a0 0) a1 M2)
def HX99_read_110 (a0 : Nat) (a1 : Int32) (a3 : Int32) (a6 : Int32) (a7 : Int64) (a9 : Int64) (s0 : Nat) (s1 : Int32) (s2 : Int32) (M : FM) : Prop := let x1 : Nat := (M.2.2 373 a0 0); (fm_in M x1 a3 = true ∧ (fm_in M s0 s1 = true ∧ let M2 : FM := fm_sI M 3 s0 s1.toNatClampNeg ((s2 - (M.1 3 x1 a3.toNatClampNeg)) - a6); (((lg_cmp a7 (Int64.ofInt 0)) = 0 → (((lg_cmp a9 (Int64.ofInt 0)) = 0 → HX99_read_189 (M2.2.2 375 a0 0) a1 (Int32.ofInt 0) M2) ∧ (¬ ((lg_cmp a9 (Int64.ofInt 0)) = 0) → HX99_read_144 a0 a3 a6 a7 a9 (M2.2.2 375 a0 0) a1 M2))) ∧ (¬ ((lg_cmp a7 (Int64.ofInt 0)) = 0) → HX99_read_144 a0 a3 a6 a7 a9 (M2.2.2 375 a0 0) a1 M2))))
theorem gX99_read_110 (a0 : Nat) (a1 : Int32) (a3 : Int32) (a6 : Int32) (a7 : Int64) (a9 : Int64) (s0 : Nat) (s1 : Int32) (s2 : Int32) (M : FM) (T : Ty M) (n_a0 : fm_is M 96 96 a0 = true) (n_s0 : fm_is M 901 901 s0 = true) (h : HX99_read_110 a0 a1 a3 a6 a7 a9 s0 s1 s2 M) : gd (FX99_read_110 a0 a1 a3 a6 a7 a9 s0 s1 s2 M) (GX99_read_110 a0 a1 a3 a6 a7 a9 s0 s1 s2 M) (OkV M) := by
  delta FX99_read_110 BX99_read_110
  refine gd_c n_a0 ?_
  have f5 := (tN_373 T.1 n_a0)
  refine gd_c ⟨f5, h.1⟩ ?_
  refine gd_c ⟨n_s0, h.2.1⟩ ?_
  refine gd_c n_a0 ?_
  refine gd_fi (fun c0_0 => ?_) (fun c0_0 => ?_)
  · refine gd_fi (fun c1_0 => ?_) (fun c1_0 => ?_)
    · have f2 := (tN_375 T.1 n_a0)
      exact gd_tV (ext_dI (ext_r _)) (gX99_read_189 _ _ _ _ ⟨T.1, (tyb_s3 (t := 901) rfl T.2 n_s0)⟩ f2 ((h.2.2.1 c0_0).1 c1_0))
    · have f3 := (tN_375 T.1 n_a0)
      exact gd_tV (ext_dI (ext_r _)) (gX99_read_144 _ _ _ _ _ _ _ _ ⟨T.1, (tyb_s3 (t := 901) rfl T.2 n_s0)⟩ n_a0 f3 ((h.2.2.1 c0_0).2 c1_0))
  · have f4 := (tN_375 T.1 n_a0)
    exact gd_tV (ext_dI (ext_r _)) (gX99_read_144 _ _ _ _ _ _ _ _ ⟨T.1, (tyb_s3 (t := 901) rfl T.2 n_s0)⟩ n_a0 f4 (h.2.2.2 c0_0))
noncomputable def GX99_read_90 (a0 : Nat) (a1 : Int32) (a3 : Int32) (a6 : Int32) (a7 : Int64) (a9 : Int64) (s0 : Nat) (s1 : Int32) (s2 : Int64) (M : FM) : FM :=
  let M1 : FM := fm_sL M 3 s0 s1.toNatClampNeg s2
  fi ((lg_cmp a7 (Int64.ofInt 0)) = 0) (
    GX99_read_110 a0 a1 a3 a6 a7 a9 (M1.2.2 378 a0 0) a1 (Int32.ofInt 1) M1) (
    GX99_read_110 a0 a1 a3 a6 a7 a9 (M1.2.2 378 a0 0) a1 a7.toInt32 M1)
def HX99_read_90 (a0 : Nat) (a1 : Int32) (a3 : Int32) (a6 : Int32) (a7 : Int64) (a9 : Int64) (s0 : Nat) (s1 : Int32) (s2 : Int64) (M : FM) : Prop := (fm_in M s0 s1 = true ∧ let M1 : FM := fm_sL M 3 s0 s1.toNatClampNeg s2; (((lg_cmp a7 (Int64.ofInt 0)) = 0 → HX99_read_110 a0 a1 a3 a6 a7 a9 (M1.2.2 378 a0 0) a1 (Int32.ofInt 1) M1) ∧ (¬ ((lg_cmp a7 (Int64.ofInt 0)) = 0) → HX99_read_110 a0 a1 a3 a6 a7 a9 (M1.2.2 378 a0 0) a1 a7.toInt32 M1)))
theorem gX99_read_90 (a0 : Nat) (a1 : Int32) (a3 : Int32) (a6 : Int32) (a7 : Int64) (a9 : Int64) (s0 : Nat) (s1 : Int32) (s2 : Int64) (M : FM) (T : Ty M) (n_s0 : fm_is M 902 902 s0 = true) (n_a0 : fm_is M 96 96 a0 = true) (h : HX99_read_90 a0 a1 a3 a6 a7 a9 s0 s1 s2 M) : gd (FX99_read_90 a0 a1 a3 a6 a7 a9 s0 s1 s2 M) (GX99_read_90 a0 a1 a3 a6 a7 a9 s0 s1 s2 M) (OkV M) := by
  delta FX99_read_90 BX99_read_90
  refine gd_c ⟨n_s0, h.1⟩ ?_
  refine gd_c n_a0 ?_
  refine gd_fi (fun c0_0 => ?_) (fun c0_0 => ?_)
  · have f1 := (tN_378 T.1 n_a0)
    exact gd_tV (ext_dL (ext_r _)) (gX99_read_110 _ _ _ _ _ _ _ _ _ _ ⟨T.1, T.2⟩ n_a0 f1 (h.2.1 c0_0))
  · have f2 := (tN_378 T.1 n_a0)
    exact gd_tV (ext_dL (ext_r _)) (gX99_read_110 _ _ _ _ _ _ _ _ _ _ ⟨T.1, T.2⟩ n_a0 f2 (h.2.2 c0_0))
noncomputable def GX99_read_61 (a0 : Nat) (a1 : Int32) (a3 : Int32) (a6 : Int32) (a7 : Int64) (a9 : Int64) (s0 : Nat) (s1 : Int32) (s2 : Int64) (s3 : Int32) (M : FM) : FM :=
  let M1 : FM := fm_sI M 3 s0 s1.toNatClampNeg (((s2.toUInt64 >>> (s3.toInt64.toUInt64 &&& Int64.toUInt64 63)).toInt64).toInt32 &&& (Int32.ofInt 1))
  fi ((lg_cmp a7 (Int64.ofInt 0)) = 0) (
    GX99_read_90 a0 a1 a3 a6 a7 a9 (M1.2.2 377 a0 0) a1 a9 M1) (
    GX99_read_90 a0 a1 a3 a6 a7 a9 (M1.2.2 377 a0 0) a1 (a9 + ((Int64.ofInt 1) <<< (a6.toInt64 &&& 63))) M1)
def HX99_read_61 (a0 : Nat) (a1 : Int32) (a3 : Int32) (a6 : Int32) (a7 : Int64) (a9 : Int64) (s0 : Nat) (s1 : Int32) (s2 : Int64) (s3 : Int32) (M : FM) : Prop := (fm_in M s0 s1 = true ∧ let M1 : FM := fm_sI M 3 s0 s1.toNatClampNeg (((s2.toUInt64 >>> (s3.toInt64.toUInt64 &&& Int64.toUInt64 63)).toInt64).toInt32 &&& (Int32.ofInt 1)); (((lg_cmp a7 (Int64.ofInt 0)) = 0 → HX99_read_90 a0 a1 a3 a6 a7 a9 (M1.2.2 377 a0 0) a1 a9 M1) ∧ (¬ ((lg_cmp a7 (Int64.ofInt 0)) = 0) → HX99_read_90 a0 a1 a3 a6 a7 a9 (M1.2.2 377 a0 0) a1 (a9 + ((Int64.ofInt 1) <<< (a6.toInt64 &&& 63))) M1)))
theorem gX99_read_61 (a0 : Nat) (a1 : Int32) (a3 : Int32) (a6 : Int32) (a7 : Int64) (a9 : Int64) (s0 : Nat) (s1 : Int32) (s2 : Int64) (s3 : Int32) (M : FM) (T : Ty M) (n_s0 : fm_is M 901 901 s0 = true) (n_a0 : fm_is M 96 96 a0 = true) (h : HX99_read_61 a0 a1 a3 a6 a7 a9 s0 s1 s2 s3 M) : gd (FX99_read_61 a0 a1 a3 a6 a7 a9 s0 s1 s2 s3 M) (GX99_read_61 a0 a1 a3 a6 a7 a9 s0 s1 s2 s3 M) (OkV M) := by
  delta FX99_read_61 BX99_read_61
  refine gd_c ⟨n_s0, h.1⟩ ?_
  refine gd_c n_a0 ?_
  refine gd_fi (fun c0_0 => ?_) (fun c0_0 => ?_)
  · have f1 := (tN_377 T.1 n_a0)
    exact gd_tV (ext_dI (ext_r _)) (gX99_read_90 _ _ _ _ _ _ _ _ _ _ ⟨T.1, (tyb_s3 (t := 901) rfl T.2 n_s0)⟩ f1 n_a0 (h.2.1 c0_0))
  · have f2 := (tN_377 T.1 n_a0)
    exact gd_tV (ext_dI (ext_r _)) (gX99_read_90 _ _ _ _ _ _ _ _ _ _ ⟨T.1, (tyb_s3 (t := 901) rfl T.2 n_s0)⟩ f2 n_a0 (h.2.2 c0_0))
noncomputable def GX99_read_0 (a0 : Nat) (a1 : Int32) (a2 : Int32) (a3 : Int32) (M : FM) : FM :=
  let r1 : Int64 × FM := GX99_bitsOf a0 a2 a3 M
  let x2 : Nat := (r1.2.2.2 372 a0 0)
  let x3 : Int32 := (r1.2.1 3 x2 a3.toNatClampNeg)
  let x4 : Nat := (r1.2.2.2 374 a0 0)
  let x5 : Int64 := ((r1.1.toUInt64 >>> (x3.toInt64.toUInt64 &&& Int64.toUInt64 63)).toInt64 &&& (r1.2.1 3 x4 a3.toNatClampNeg).toInt64)
  let x6 : Int64 := (r1.1 &&& (((Int64.ofInt 1) <<< (x3.toInt64 &&& 63)) - (Int64.ofInt 1)))
  fi (a3 = (Int32.ofInt 1)) (
    GX99_read_61 a0 a1 a3 x3 x5 x6 (r1.2.2.2 376 a0 0) a1 r1.1 (Int32.ofInt 63) r1.2) (
    GX99_read_61 a0 a1 a3 x3 x5 x6 (r1.2.2.2 376 a0 0) a1 r1.1 (Int32.ofInt 31) r1.2)
def HX99_read_0 (a0 : Nat) (a1 : Int32) (a2 : Int32) (a3 : Int32) (M : FM) : Prop := (HX99_bitsOf a0 a2 a3 M ∧ let r1 : Int64 × FM := GX99_bitsOf a0 a2 a3 M; let x2 : Nat := (r1.2.2.2 372 a0 0); (fm_in r1.2 x2 a3 = true ∧ let x3 : Int32 := (r1.2.1 3 x2 a3.toNatClampNeg); let x4 : Nat := (r1.2.2.2 374 a0 0); (fm_in r1.2 x4 a3 = true ∧ let x5 : Int64 := ((r1.1.toUInt64 >>> (x3.toInt64.toUInt64 &&& Int64.toUInt64 63)).toInt64 &&& (r1.2.1 3 x4 a3.toNatClampNeg).toInt64); let x6 : Int64 := (r1.1 &&& (((Int64.ofInt 1) <<< (x3.toInt64 &&& 63)) - (Int64.ofInt 1))); ((a3 = (Int32.ofInt 1) → HX99_read_61 a0 a1 a3 x3 x5 x6 (r1.2.2.2 376 a0 0) a1 r1.1 (Int32.ofInt 63) r1.2) ∧ (¬ (a3 = (Int32.ofInt 1)) → HX99_read_61 a0 a1 a3 x3 x5 x6 (r1.2.2.2 376 a0 0) a1 r1.1 (Int32.ofInt 31) r1.2)))))
theorem gX99_read_0 (a0 : Nat) (a1 : Int32) (a2 : Int32) (a3 : Int32) (M : FM) (T : Ty M) (n_a0 : fm_is M 96 96 a0 = true) (h : HX99_read_0 a0 a1 a2 a3 M) : gd (FX99_read_0 a0 a1 a2 a3 M) (GX99_read_0 a0 a1 a2 a3 M) (OkV M) := by
  delta FX99_read_0 BX99_read_0
  refine gd_c n_a0 ?_
  refine gd_b (gX99_bitsOf _ _ _ _ ⟨T.1, T.2⟩ n_a0 h.1) (fun K0 => ?_)
  have f1 := (ext_is K0.2 (Nat.zero_lt_succ _) n_a0)
  refine gd_c f1 ?_
  have f10 := (tN_372 K0.1.1 (ext_is K0.2 (Nat.zero_lt_succ _) n_a0))
  refine gd_c ⟨f10, h.2.1⟩ ?_
  have f2 := (ext_is K0.2 (Nat.zero_lt_succ _) n_a0)
  refine gd_c f2 ?_
  have f9 := (tN_374 K0.1.1 (ext_is K0.2 (Nat.zero_lt_succ _) n_a0))
  refine gd_c ⟨f9, h.2.2.1⟩ ?_
  have f3 := (ext_is K0.2 (Nat.zero_lt_succ _) n_a0)
  refine gd_c f3 ?_
  refine gd_fi (fun c4_0 => ?_) (fun c4_0 => ?_)
  · have f5 := (tN_376 K0.1.1 (ext_is K0.2 (Nat.zero_lt_succ _) n_a0))
    have f6 := (ext_is K0.2 (Nat.zero_lt_succ _) n_a0)
    exact gd_tV K0.2 (gX99_read_61 _ _ _ _ _ _ _ _ _ _ _ ⟨K0.1.1, K0.1.2⟩ f5 f6 (h.2.2.2.1 c4_0))
  · have f7 := (tN_376 K0.1.1 (ext_is K0.2 (Nat.zero_lt_succ _) n_a0))
    have f8 := (ext_is K0.2 (Nat.zero_lt_succ _) n_a0)
    exact gd_tV K0.2 (gX99_read_61 _ _ _ _ _ _ _ _ _ _ _ ⟨K0.1.1, K0.1.2⟩ f7 f8 (h.2.2.2.2 c4_0))
noncomputable def GX99_read (a0 : Nat) (a1 : Int32) (a2 : Int32) (a3 : Int32) (M : FM) : FM := GX99_read_0 a0 a1 a2 a3 M
def HX99_read (a0 : Nat) (a1 : Int32) (a2 : Int32) (a3 : Int32) (M : FM) : Prop := HX99_read_0 a0 a1 a2 a3 M
theorem gX99_read (a0 : Nat) (a1 : Int32) (a2 : Int32) (a3 : Int32) (M : FM) (T : Ty M) (n_a0 : fm_is M 96 96 a0 = true) (h : HX99_read a0 a1 a2 a3 M) : gd (FX99_read a0 a1 a2 a3 M) (GX99_read a0 a1 a2 a3 M) (OkV M) := gX99_read_0 a0 a1 a2 a3 M T n_a0 h
noncomputable def GX99_raiseFlags_0 (a0 : Nat) (a1 : Int32) (M : FM) : FM :=
  let M1 : FM := fm_sI M 368 a0 0 ((M.1 368 a0 0) ||| a1)
  let M2 : FM := fm_sI M1 371 a0 0 (Int32.ofInt 1)
  M2
theorem gX99_raiseFlags_0 (a0 : Nat) (a1 : Int32) (M : FM) (T : Ty M) (n_a0 : fm_is M 96 96 a0 = true) : gd (FX99_raiseFlags_0 a0 a1 M) (GX99_raiseFlags_0 a0 a1 M) (OkV M) := by
  delta FX99_raiseFlags_0 BX99_raiseFlags_0
  refine gd_c n_a0 ?_
  refine gd_c n_a0 ?_
  refine gd_c n_a0 ?_
  refine gd_c fz_1 ?_
  exact ⟨rfl, ⟨T.1, (tyb_sIb (f := 371) rfl (tyb_sI (f := 368) rfl T.2) fz_1)⟩, (ext_dI (ext_dI (ext_r _)))⟩
noncomputable def GX99_raiseFlags (a0 : Nat) (a1 : Int32) (M : FM) : FM := GX99_raiseFlags_0 a0 a1 M
theorem gX99_raiseFlags (a0 : Nat) (a1 : Int32) (M : FM) (T : Ty M) (n_a0 : fm_is M 96 96 a0 = true) : gd (FX99_raiseFlags a0 a1 M) (GX99_raiseFlags a0 a1 M) (OkV M) := gX99_raiseFlags_0 a0 a1 M T n_a0 
noncomputable def GX99_invalid_0 (a0 : Nat) (a1 : Int32) (M : FM) : Int64 × FM :=
  let M1 : FM := GX99_raiseFlags a0 (Int32.ofInt 16) M
  let r2 : Int64 × FM := GX99_quiet a1 M1
  (r2.1, r2.2)
theorem gX99_invalid_0 (a0 : Nat) (a1 : Int32) (M : FM) (T : Ty M) (n_a0 : fm_is M 96 96 a0 = true) : gd (FX99_invalid_0 a0 a1 M) (GX99_invalid_0 a0 a1 M) (OkR M) := by
  delta FX99_invalid_0 BX99_invalid_0
  refine gd_c n_a0 ?_
  refine gd_b (gX99_raiseFlags _ _ _ ⟨T.1, T.2⟩ n_a0 ) (fun K0 => ?_)
  refine gd_b (gX99_quiet _ _ ⟨K0.1.1, K0.1.2⟩  ) (fun K1 => ?_)
  exact ⟨rfl, ⟨K1.1.1, K1.1.2⟩, (ext_tr K0.2 K1.2)⟩
noncomputable def GX99_invalid (a0 : Nat) (a1 : Int32) (M : FM) : Int64 × FM := GX99_invalid_0 a0 a1 M
theorem gX99_invalid (a0 : Nat) (a1 : Int32) (M : FM) (T : Ty M) (n_a0 : fm_is M 96 96 a0 = true) : gd (FX99_invalid a0 a1 M) (GX99_invalid a0 a1 M) (OkR M) := gX99_invalid_0 a0 a1 M T n_a0 
noncomputable def GX99_isNone_15 (s0 : Int32) (M : FM) : Int32 × FM :=
  (s0, M)
theorem gX99_isNone_15 (s0 : Int32) (M : FM) (T : Ty M) (z_s0 : s0 = 0 ∨ s0 = 1) : gd (FX99_isNone_15 s0 M) (GX99_isNone_15 s0 M) (OkZ M) := by
  delta FX99_isNone_15 BX99_isNone_15
  exact gd_z z_s0 ⟨T.1, T.2⟩ (ext_r _) rfl
noncomputable def GX99_isNone_0 (a0 : Nat) (a1 : Int32) (M : FM) : Int32 × FM :=
  let x1 : Nat := (M.2.2 375 a0 0)
  fi ((M.1 3 x1 a1.toNatClampNeg) < (Int32.ofInt 3)) (
    GX99_isNone_15 (Int32.ofInt 0) M) (
    GX99_isNone_15 (Int32.ofInt 1) M)
def HX99_isNone_0 (a0 : Nat) (a1 : Int32) (M : FM) : Prop := let x1 : Nat := (M.2.2 375 a0 0); (fm_in M x1 a1 = true ∧ True)
theorem gX99_isNone_0 (a0 : Nat) (a1 : Int32) (M : FM) (T : Ty M) (n_a0 : fm_is M 96 96 a0 = true) (h : HX99_isNone_0 a0 a1 M) : gd (FX99_isNone_0 a0 a1 M) (GX99_isNone_0 a0 a1 M) (OkZ M) := by
  delta FX99_isNone_0 BX99_isNone_0
  refine gd_c n_a0 ?_
  have f1 := (tN_375 T.1 n_a0)
  refine gd_c ⟨f1, h.1⟩ ?_
  refine gd_fi (fun c0_0 => ?_) (fun c0_0 => ?_)
  · exact gd_tZ (ext_r _) (gX99_isNone_15 _ _ ⟨T.1, T.2⟩ fz_0 )
  · exact gd_tZ (ext_r _) (gX99_isNone_15 _ _ ⟨T.1, T.2⟩ fz_1 )
noncomputable def GX99_isNone (a0 : Nat) (a1 : Int32) (M : FM) : Int32 × FM := GX99_isNone_0 a0 a1 M
def HX99_isNone (a0 : Nat) (a1 : Int32) (M : FM) : Prop := HX99_isNone_0 a0 a1 M
theorem gX99_isNone (a0 : Nat) (a1 : Int32) (M : FM) (T : Ty M) (n_a0 : fm_is M 96 96 a0 = true) (h : HX99_isNone a0 a1 M) : gd (FX99_isNone a0 a1 M) (GX99_isNone a0 a1 M) (OkZ M) := gX99_isNone_0 a0 a1 M T n_a0 h
def kX99_none (k8 : Nat → Int32 → Int32 → Int32 → Int32 → Int32 → FM → Option (Int64 × FM)) : (Nat × Int32 × Int32 × Int32 × Int32 × Int32 × FM) ⊕ (Int64 × FM) → Option (Int64 × FM)
  | .inl (v0, v1, v2, v3, v4, v5, M') => k8 v0 v1 v2 v3 v4 v5 M'
  | .inr (r) => some r
def pX99_none (M : FM) : (Nat × Int32 × Int32 × Int32 × Int32 × Int32 × FM) ⊕ (Int64 × FM) → Prop
  | .inl (_, _, _, _, _, _, M') => OkV M M'
  | .inr (r) => OkR M r
theorem pX99_none_t {M M1 : FM} (e : Ext M M1) : ∀ y, pX99_none M1 y → pX99_none M y
  | .inl (_, _, _, _, _, _, _), h => ⟨h.1, ext_tr e h.2⟩
  | .inr (r), h => ⟨h.1, ext_tr e h.2⟩
noncomputable def GX99_none_89 (s0 : Int64) (M : FM) : (Nat × Int32 × Int32 × Int32 × Int32 × Int32 × FM) ⊕ (Int64 × FM) :=
  (.inr (s0, M))
theorem gX99_none_89 (k8 : Nat → Int32 → Int32 → Int32 → Int32 → Int32 → FM → Option (Int64 × FM)) (s0 : Int64) (M : FM) (T : Ty M) : gs (FX99_none_89 fN k8 s0 M) (GX99_none_89 s0 M) (kX99_none k8) (pX99_none M) := by
  delta FX99_none_89 BX99_none_89
  exact And.intro rfl (And.intro (And.intro T.1 T.2) ((ext_r _)))
noncomputable def GX99_none_54 (a0 : Nat) (a1 : Int32) (a2 : Int32) (a3 : Int32) (a5 : Int32) (s0 : Int32) (M : FM) : (Nat × Int32 × Int32 × Int32 × Int32 × Int32 × FM) ⊕ (Int64 × FM) :=
  let x1 : Int32 := a5 + (Int32.ofInt 1)
  (.inl (a0, a1, a2, a3, s0, x1, M))
theorem gX99_none_54 (k8 : Nat → Int32 → Int32 → Int32 → Int32 → Int32 → FM → Option (Int64 × FM)) (a0 : Nat) (a1 : Int32) (a2 : Int32) (a3 : Int32) (a5 : Int32) (s0 : Int32) (M : FM) (T : Ty M) : gs (FX99_none_54 fN k8 a0 a1 a2 a3 a5 s0 M) (GX99_none_54 a0 a1 a2 a3 a5 s0 M) (kX99_none k8) (pX99_none M) := by
  delta FX99_none_54 BX99_none_54
  exact And.intro rfl (And.intro (And.intro T.1 T.2) ((ext_r _)))
noncomputable def GX99_none_49 (a0 : Nat) (a1 : Int32) (a2 : Int32) (a3 : Int32) (a5 : Int32) (M : FM) : (Nat × Int32 × Int32 × Int32 × Int32 × Int32 × FM) ⊕ (Int64 × FM) :=
  GX99_none_54 a0 a1 a2 a3 a5 (Int32.ofInt 1) M
theorem gX99_none_49 (k8 : Nat → Int32 → Int32 → Int32 → Int32 → Int32 → FM → Option (Int64 × FM)) (a0 : Nat) (a1 : Int32) (a2 : Int32) (a3 : Int32) (a5 : Int32) (M : FM) (T : Ty M) : gs (FX99_none_49 fN k8 a0 a1 a2 a3 a5 M) (GX99_none_49 a0 a1 a2 a3 a5 M) (kX99_none k8) (pX99_none M) := by
  delta FX99_none_49 BX99_none_49
  exact gs_t (pX99_none_t (ext_r _)) (gX99_none_54 k8 _ _ _ _ _ _ _ ⟨T.1, T.2⟩  )
noncomputable def GX99_none_32 (a0 : Nat) (a1 : Int32) (a2 : Int32) (a4 : Int32) (a5 : Int32) (s0 : Int32) (M : FM) : (Nat × Int32 × Int32 × Int32 × Int32 × Int32 × FM) ⊕ (Int64 × FM) :=
  fi (a4 = 0) (
    let x1 : Nat := (M.2.2 375 a0 0)
    fi ((M.1 3 x1 a5.toNatClampNeg) = (Int32.ofInt 4)) (
      GX99_none_49 a0 a1 a2 s0 a5 M) (
      GX99_none_54 a0 a1 a2 s0 a5 (Int32.ofInt 0) M)) (
    GX99_none_49 a0 a1 a2 s0 a5 M)
def HX99_none_32 (a0 : Nat) (a1 : Int32) (a2 : Int32) (a4 : Int32) (a5 : Int32) (s0 : Int32) (M : FM) : Prop := ((a4 = 0 → let x1 : Nat := (M.2.2 375 a0 0); (fm_in M x1 a5 = true ∧ True)) ∧ (¬ (a4 = 0) → True))
theorem gX99_none_32 (k8 : Nat → Int32 → Int32 → Int32 → Int32 → Int32 → FM → Option (Int64 × FM)) (a0 : Nat) (a1 : Int32) (a2 : Int32) (a4 : Int32) (a5 : Int32) (s0 : Int32) (M : FM) (T : Ty M) (n_a0 : fm_is M 96 96 a0 = true) (h : HX99_none_32 a0 a1 a2 a4 a5 s0 M) : gs (FX99_none_32 fN k8 a0 a1 a2 a4 a5 s0 M) (GX99_none_32 a0 a1 a2 a4 a5 s0 M) (kX99_none k8) (pX99_none M) := by
  delta FX99_none_32 BX99_none_32
  refine gs_fi (fun c0_0 => ?_) (fun c0_0 => ?_)
  · refine gs_c n_a0 ?_
    have f2 := (tN_375 T.1 n_a0)
    refine gs_c ⟨f2, (h.1 c0_0).1⟩ ?_
    refine gs_fi (fun c1_0 => ?_) (fun c1_0 => ?_)
    · exact gs_t (pX99_none_t (ext_r _)) (gX99_none_49 k8 _ _ _ _ _ _ ⟨T.1, T.2⟩  )
    · exact gs_t (pX99_none_t (ext_r _)) (gX99_none_54 k8 _ _ _ _ _ _ _ ⟨T.1, T.2⟩  )
  · exact gs_t (pX99_none_t (ext_r _)) (gX99_none_49 k8 _ _ _ _ _ _ ⟨T.1, T.2⟩  )
noncomputable def GX99_none_27 (a0 : Nat) (a1 : Int32) (a2 : Int32) (a4 : Int32) (a5 : Int32) (M : FM) : (Nat × Int32 × Int32 × Int32 × Int32 × Int32 × FM) ⊕ (Int64 × FM) :=
  GX99_none_32 a0 a1 a2 a4 a5 (Int32.ofInt 1) M
def HX99_none_27 (a0 : Nat) (a1 : Int32) (a2 : Int32) (a4 : Int32) (a5 : Int32) (M : FM) : Prop := HX99_none_32 a0 a1 a2 a4 a5 (Int32.ofInt 1) M
theorem gX99_none_27 (k8 : Nat → Int32 → Int32 → Int32 → Int32 → Int32 → FM → Option (Int64 × FM)) (a0 : Nat) (a1 : Int32) (a2 : Int32) (a4 : Int32) (a5 : Int32) (M : FM) (T : Ty M) (n_a0 : fm_is M 96 96 a0 = true) (h : HX99_none_27 a0 a1 a2 a4 a5 M) : gs (FX99_none_27 fN k8 a0 a1 a2 a4 a5 M) (GX99_none_27 a0 a1 a2 a4 a5 M) (kX99_none k8) (pX99_none M) := by
  delta FX99_none_27 BX99_none_27
  exact gs_t (pX99_none_t (ext_r _)) (gX99_none_32 k8 _ _ _ _ _ _ _ ⟨T.1, T.2⟩ n_a0 h)
noncomputable def GX99_none_0 (a0 : Nat) (a1 : Int32) (a2 : Int32) (M : FM) : (Nat × Int32 × Int32 × Int32 × Int32 × Int32 × FM) ⊕ (Int64 × FM) :=
  (.inl (a0, a1, a2, (Int32.ofInt 0), (Int32.ofInt 0), (Int32.ofInt 0), M))
theorem gX99_none_0 (k8 : Nat → Int32 → Int32 → Int32 → Int32 → Int32 → FM → Option (Int64 × FM)) (a0 : Nat) (a1 : Int32) (a2 : Int32) (M : FM) (T : Ty M) : gs (FX99_none_0 fN k8 a0 a1 a2 M) (GX99_none_0 a0 a1 a2 M) (kX99_none k8) (pX99_none M) := by
  delta FX99_none_0 BX99_none_0
  exact And.intro rfl (And.intro (And.intro T.1 T.2) ((ext_r _)))
noncomputable def GX99_none_8 (a0 : Nat) (a1 : Int32) (a2 : Int32) (a3 : Int32) (a4 : Int32) (a5 : Int32) (M : FM) : (Nat × Int32 × Int32 × Int32 × Int32 × Int32 × FM) ⊕ (Int64 × FM) :=
  fi (a1 ≤ a5) (
    fi (a3 = 0) (
      GX99_none_89 (Int64.ofInt (-1)) M) (
      fi (a4 = 0) (
        let r1 : Int64 × FM := GX99_quiet a2 M
        GX99_none_89 r1.1 r1.2) (
        let r2 : Int64 × FM := GX99_invalid a0 a2 M
        GX99_none_89 r2.1 r2.2))) (
    fi (a3 = 0) (
      let r3 : Int32 × FM := GX99_isNone a0 a5 M
      fi (r3.1 = 0) (
        GX99_none_32 a0 a1 a2 a4 a5 (Int32.ofInt 0) r3.2) (
        GX99_none_27 a0 a1 a2 a4 a5 r3.2)) (
      GX99_none_27 a0 a1 a2 a4 a5 M))
def HX99_none_8 (a0 : Nat) (a1 : Int32) (a2 : Int32) (a3 : Int32) (a4 : Int32) (a5 : Int32) (M : FM) : Prop := ((a1 ≤ a5 → True) ∧ (¬ (a1 ≤ a5) → ((a3 = 0 → (HX99_isNone a0 a5 M ∧ let r3 : Int32 × FM := GX99_isNone a0 a5 M; ((r3.1 = 0 → HX99_none_32 a0 a1 a2 a4 a5 (Int32.ofInt 0) r3.2) ∧ (¬ (r3.1 = 0) → HX99_none_27 a0 a1 a2 a4 a5 r3.2)))) ∧ (¬ (a3 = 0) → HX99_none_27 a0 a1 a2 a4 a5 M))))
theorem gX99_none_8 (k8 : Nat → Int32 → Int32 → Int32 → Int32 → Int32 → FM → Option (Int64 × FM)) (a0 : Nat) (a1 : Int32) (a2 : Int32) (a3 : Int32) (a4 : Int32) (a5 : Int32) (M : FM) (T : Ty M) (n_a0 : fm_is M 96 96 a0 = true) (h : HX99_none_8 a0 a1 a2 a3 a4 a5 M) : gs (FX99_none_8 fN k8 a0 a1 a2 a3 a4 a5 M) (GX99_none_8 a0 a1 a2 a3 a4 a5 M) (kX99_none k8) (pX99_none M) := by
  delta FX99_none_8 BX99_none_8
  refine gs_fi (fun c0_0 => ?_) (fun c0_0 => ?_)
  · refine gs_fi (fun c1_0 => ?_) (fun c1_0 => ?_)
    · exact gs_t (pX99_none_t (ext_r _)) (gX99_none_89 k8 _ _ ⟨T.1, T.2⟩  )
    · refine gs_fi (fun c2_0 => ?_) (fun c2_0 => ?_)
      · refine gs_b (gX99_quiet _ _ ⟨T.1, T.2⟩  ) (fun K3 => ?_)
        exact gs_t (pX99_none_t K3.2) (gX99_none_89 k8 _ _ ⟨K3.1.1, K3.1.2⟩  )
      · refine gs_c n_a0 ?_
        refine gs_b (gX99_invalid _ _ _ ⟨T.1, T.2⟩ n_a0 ) (fun K4 => ?_)
        exact gs_t (pX99_none_t K4.2) (gX99_none_89 k8 _ _ ⟨K4.1.1, K4.1.2⟩  )
  · refine gs_fi (fun c5_0 => ?_) (fun c5_0 => ?_)
    · refine gs_c n_a0 ?_
      refine gs_b (gX99_isNone _ _ _ ⟨T.1, T.2⟩ n_a0 ((h.2 c0_0).1 c5_0).1) (fun K6 => ?_)
      refine gs_fi (fun c7_0 => ?_) (fun c7_0 => ?_)
      · have f8 := (ext_is K6.2.1 (Nat.zero_lt_succ _) n_a0)
        exact gs_t (pX99_none_t K6.2.1) (gX99_none_32 k8 _ _ _ _ _ _ _ ⟨K6.1.1, K6.1.2⟩ f8 (((h.2 c0_0).1 c5_0).2.1 c7_0))
      · have f9 := (ext_is K6.2.1 (Nat.zero_lt_succ _) n_a0)
        exact gs_t (pX99_none_t K6.2.1) (gX99_none_27 k8 _ _ _ _ _ _ ⟨K6.1.1, K6.1.2⟩ f9 (((h.2 c0_0).1 c5_0).2.2 c7_0))
    · exact gs_t (pX99_none_t (ext_r _)) (gX99_none_27 k8 _ _ _ _ _ _ ⟨T.1, T.2⟩ n_a0 ((h.2 c0_0).2 c5_0))
noncomputable def GX99_none (a0 : Nat) (a1 : Int32) (a2 : Int32) (M : FM) : Int64 × FM := (FX99_none fN a0 a1 a2 M).getD (0, M)
def HX99_none (a0 : Nat) (a1 : Int32) (a2 : Int32) (M : FM) : Prop := ∃ r, FX99_none fN a0 a1 a2 M = some r ∧ OkR M r
theorem gX99_none (a0 : Nat) (a1 : Int32) (a2 : Int32) (M : FM) (h : HX99_none a0 a1 a2 M) : gd (FX99_none fN a0 a1 a2 M) (GX99_none a0 a1 a2 M) (OkR M) := gd_op h
noncomputable def GX99_pack_37 (a3 : Int64) (s0 : Int64) (s1 : Int64) (s2 : Int32) (M : FM) : Int64 × FM :=
  (((s0 ||| (s1 <<< (s2.toInt64 &&& 63))) ||| a3), M)
theorem gX99_pack_37 (a3 : Int64) (s0 : Int64) (s1 : Int64) (s2 : Int32) (M : FM) (T : Ty M) : gd (FX99_pack_37 a3 s0 s1 s2 M) (GX99_pack_37 a3 s0 s1 s2 M) (OkR M) := by
  delta FX99_pack_37 BX99_pack_37
  exact ⟨rfl, ⟨T.1, T.2⟩, (ext_r _)⟩
noncomputable def GX99_pack_19 (a1 : Int64) (a3 : Int64) (a5 : Int32) (s0 : Int64) (M : FM) : Int64 × FM :=
  fi (a5 = (Int32.ofInt 1)) (
    GX99_pack_37 a3 s0 a1 (Int32.ofInt 52) M) (
    GX99_pack_37 a3 s0 a1 (Int32.ofInt 23) M)
theorem gX99_pack_19 (a1 : Int64) (a3 : Int64) (a5 : Int32) (s0 : Int64) (M : FM) (T : Ty M) : gd (FX99_pack_19 a1 a3 a5 s0 M) (GX99_pack_19 a1 a3 a5 s0 M) (OkR M) := by
  delta FX99_pack_19 BX99_pack_19
  refine gd_fi (fun c0_0 => ?_) (fun c0_0 => ?_)
  · exact gd_tR (ext_r _) (gX99_pack_37 _ _ _ _ _ ⟨T.1, T.2⟩  )
  · exact gd_tR (ext_r _) (gX99_pack_37 _ _ _ _ _ ⟨T.1, T.2⟩  )
noncomputable def GX99_pack_0 (a0 : Int32) (a1 : Int64) (a3 : Int64) (a5 : Int32) (M : FM) : Int64 × FM :=
  fi (a5 = (Int32.ofInt 1)) (
    GX99_pack_19 a1 a3 a5 (a0.toInt64 <<< ((Int32.ofInt 63).toInt64 &&& 63)) M) (
    GX99_pack_19 a1 a3 a5 (a0.toInt64 <<< ((Int32.ofInt 31).toInt64 &&& 63)) M)
theorem gX99_pack_0 (a0 : Int32) (a1 : Int64) (a3 : Int64) (a5 : Int32) (M : FM) (T : Ty M) : gd (FX99_pack_0 a0 a1 a3 a5 M) (GX99_pack_0 a0 a1 a3 a5 M) (OkR M) := by
  delta FX99_pack_0 BX99_pack_0
  refine gd_fi (fun c0_0 => ?_) (fun c0_0 => ?_)
  · exact gd_tR (ext_r _) (gX99_pack_19 _ _ _ _ _ ⟨T.1, T.2⟩  )
  · exact gd_tR (ext_r _) (gX99_pack_19 _ _ _ _ _ ⟨T.1, T.2⟩  )
noncomputable def GX99_pack (a0 : Int32) (a1 : Int64) (a3 : Int64) (a5 : Int32) (M : FM) : Int64 × FM := GX99_pack_0 a0 a1 a3 a5 M
theorem gX99_pack (a0 : Int32) (a1 : Int64) (a3 : Int64) (a5 : Int32) (M : FM) (T : Ty M) : gd (FX99_pack a0 a1 a3 a5 M) (GX99_pack a0 a1 a3 a5 M) (OkR M) := gX99_pack_0 a0 a1 a3 a5 M T 
noncomputable def GX99_infiniteSum_31 (a0 : Nat) (a5 : Int32) (s0 : Int32) (M : FM) : Int64 × FM :=
  let x1 : Nat := (M.2.2 374 a0 0)
  let r2 : Int64 × FM := GX99_pack s0 ((M.1 3 x1 a5.toNatClampNeg).toInt64) (Int64.ofInt 0) a5 M
  (r2.1, r2.2)
def HX99_infiniteSum_31 (a0 : Nat) (a5 : Int32) (s0 : Int32) (M : FM) : Prop := let x1 : Nat := (M.2.2 374 a0 0); (fm_in M x1 a5 = true ∧ True)
theorem gX99_infiniteSum_31 (a0 : Nat) (a5 : Int32) (s0 : Int32) (M : FM) (T : Ty M) (n_a0 : fm_is M 96 96 a0 = true) (h : HX99_infiniteSum_31 a0 a5 s0 M) : gd (FX99_infiniteSum_31 a0 a5 s0 M) (GX99_infiniteSum_31 a0 a5 s0 M) (OkR M) := by
  delta FX99_infiniteSum_31 BX99_infiniteSum_31
  refine gd_c n_a0 ?_
  have f1 := (tN_374 T.1 n_a0)
  refine gd_c ⟨f1, h.1⟩ ?_
  refine gd_b (gX99_pack _ _ _ _ _ ⟨T.1, T.2⟩  ) (fun K0 => ?_)
  exact ⟨rfl, ⟨K0.1.1, K0.1.2⟩, K0.2⟩
noncomputable def GX99_infiniteSum_21 (a0 : Nat) (a1 : Int32) (a2 : Int32) (a4 : Int32) (a5 : Int32) (M : FM) : Int64 × FM :=
  fi (a1 = 0) (
    GX99_infiniteSum_31 a0 a5 a4 M) (
    GX99_infiniteSum_31 a0 a5 a2 M)
def HX99_infiniteSum_21 (a0 : Nat) (a1 : Int32) (a2 : Int32) (a4 : Int32) (a5 : Int32) (M : FM) : Prop := ((a1 = 0 → HX99_infiniteSum_31 a0 a5 a4 M) ∧ (¬ (a1 = 0) → HX99_infiniteSum_31 a0 a5 a2 M))
theorem gX99_infiniteSum_21 (a0 : Nat) (a1 : Int32) (a2 : Int32) (a4 : Int32) (a5 : Int32) (M : FM) (T : Ty M) (n_a0 : fm_is M 96 96 a0 = true) (h : HX99_infiniteSum_21 a0 a1 a2 a4 a5 M) : gd (FX99_infiniteSum_21 a0 a1 a2 a4 a5 M) (GX99_infiniteSum_21 a0 a1 a2 a4 a5 M) (OkR M) := by
  delta FX99_infiniteSum_21 BX99_infiniteSum_21
  refine gd_fi (fun c0_0 => ?_) (fun c0_0 => ?_)
  · exact gd_tR (ext_r _) (gX99_infiniteSum_31 _ _ _ _ ⟨T.1, T.2⟩ n_a0 (h.1 c0_0))
  · exact gd_tR (ext_r _) (gX99_infiniteSum_31 _ _ _ _ ⟨T.1, T.2⟩ n_a0 (h.2 c0_0))
noncomputable def GX99_infiniteSum_0 (a0 : Nat) (a1 : Int32) (a2 : Int32) (a3 : Int32) (a4 : Int32) (a5 : Int32) (M : FM) : Int64 × FM :=
  fi (a1 = 0) (
    GX99_infiniteSum_21 a0 a1 a2 a4 a5 M) (
    fi (a3 = 0) (
      GX99_infiniteSum_21 a0 a1 a2 a4 a5 M) (
      fi (a2 = a4) (
        GX99_infiniteSum_21 a0 a1 a2 a4 a5 M) (
        let r1 : Int64 × FM := GX99_invalid a0 a5 M
        (r1.1, r1.2))))
def HX99_infiniteSum_0 (a0 : Nat) (a1 : Int32) (a2 : Int32) (a3 : Int32) (a4 : Int32) (a5 : Int32) (M : FM) : Prop := ((a1 = 0 → HX99_infiniteSum_21 a0 a1 a2 a4 a5 M) ∧ (¬ (a1 = 0) → ((a3 = 0 → HX99_infiniteSum_21 a0 a1 a2 a4 a5 M) ∧ (¬ (a3 = 0) → ((a2 = a4 → HX99_infiniteSum_21 a0 a1 a2 a4 a5 M) ∧ (¬ (a2 = a4) → True))))))
theorem gX99_infiniteSum_0 (a0 : Nat) (a1 : Int32) (a2 : Int32) (a3 : Int32) (a4 : Int32) (a5 : Int32) (M : FM) (T : Ty M) (n_a0 : fm_is M 96 96 a0 = true) (h : HX99_infiniteSum_0 a0 a1 a2 a3 a4 a5 M) : gd (FX99_infiniteSum_0 a0 a1 a2 a3 a4 a5 M) (GX99_infiniteSum_0 a0 a1 a2 a3 a4 a5 M) (OkR M) := by
  delta FX99_infiniteSum_0 BX99_infiniteSum_0
  refine gd_fi (fun c0_0 => ?_) (fun c0_0 => ?_)
  · exact gd_tR (ext_r _) (gX99_infiniteSum_21 _ _ _ _ _ _ ⟨T.1, T.2⟩ n_a0 (h.1 c0_0))
  · refine gd_fi (fun c1_0 => ?_) (fun c1_0 => ?_)
    · exact gd_tR (ext_r _) (gX99_infiniteSum_21 _ _ _ _ _ _ ⟨T.1, T.2⟩ n_a0 ((h.2 c0_0).1 c1_0))
    · refine gd_fi (fun c2_0 => ?_) (fun c2_0 => ?_)
      · exact gd_tR (ext_r _) (gX99_infiniteSum_21 _ _ _ _ _ _ ⟨T.1, T.2⟩ n_a0 (((h.2 c0_0).2 c1_0).1 c2_0))
      · refine gd_c n_a0 ?_
        refine gd_b (gX99_invalid _ _ _ ⟨T.1, T.2⟩ n_a0 ) (fun K3 => ?_)
        exact ⟨rfl, ⟨K3.1.1, K3.1.2⟩, K3.2⟩
noncomputable def GX99_infiniteSum (a0 : Nat) (a1 : Int32) (a2 : Int32) (a3 : Int32) (a4 : Int32) (a5 : Int32) (M : FM) : Int64 × FM := GX99_infiniteSum_0 a0 a1 a2 a3 a4 a5 M
def HX99_infiniteSum (a0 : Nat) (a1 : Int32) (a2 : Int32) (a3 : Int32) (a4 : Int32) (a5 : Int32) (M : FM) : Prop := HX99_infiniteSum_0 a0 a1 a2 a3 a4 a5 M
theorem gX99_infiniteSum (a0 : Nat) (a1 : Int32) (a2 : Int32) (a3 : Int32) (a4 : Int32) (a5 : Int32) (M : FM) (T : Ty M) (n_a0 : fm_is M 96 96 a0 = true) (h : HX99_infiniteSum a0 a1 a2 a3 a4 a5 M) : gd (FX99_infiniteSum a0 a1 a2 a3 a4 a5 M) (GX99_infiniteSum a0 a1 a2 a3 a4 a5 M) (OkR M) := gX99_infiniteSum_0 a0 a1 a2 a3 a4 a5 M T n_a0 h
def kX99_put (k2 : Nat → Int64 → Int32 → FM → Option (FM)) : (Nat × Int64 × Int32 × FM) ⊕ (FM) → Option (FM)
  | .inl (v0, v1, v2, M') => k2 v0 v1 v2 M'
  | .inr (r) => some r
def pX99_put (M : FM) : (Nat × Int64 × Int32 × FM) ⊕ (FM) → Prop
  | .inl (_, _, _, M') => OkV M M'
  | .inr (r) => OkV M r
theorem pX99_put_t {M M1 : FM} (e : Ext M M1) : ∀ y, pX99_put M1 y → pX99_put M y
  | .inl (_, _, _, _), h => ⟨h.1, ext_tr e h.2⟩
  | .inr (r), h => ⟨h.1, ext_tr e h.2⟩
noncomputable def GX99_put_30 (a0 : Nat) (a1 : Int64) (a3 : Int32) (s0 : Nat) (s1 : Int32) (s2 : Int32) (M : FM) : (Nat × Int64 × Int32 × FM) ⊕ (FM) :=
  let M1 : FM := fm_sI M 3 s0 s1.toNatClampNeg s2
  let x2 : Int32 := a3 + (Int32.ofInt 1)
  (.inl (a0, a1, x2, M1))
def HX99_put_30 (a0 : Nat) (a1 : Int64) (a3 : Int32) (s0 : Nat) (s1 : Int32) (s2 : Int32) (M : FM) : Prop := (fm_in M s0 s1 = true ∧ True)
theorem gX99_put_30 (k2 : Nat → Int64 → Int32 → FM → Option (FM)) (a0 : Nat) (a1 : Int64) (a3 : Int32) (s0 : Nat) (s1 : Int32) (s2 : Int32) (M : FM) (T : Ty M) (n_s0 : fm_is M 901 901 s0 = true) (h : HX99_put_30 a0 a1 a3 s0 s1 s2 M) : gs (FX99_put_30 fN k2 a0 a1 a3 s0 s1 s2 M) (GX99_put_30 a0 a1 a3 s0 s1 s2 M) (kX99_put k2) (pX99_put M) := by
  delta FX99_put_30 BX99_put_30
  refine gs_c ⟨n_s0, h.1⟩ ?_
  exact And.intro rfl (And.intro (And.intro T.1 (tyb_s3 (t := 901) rfl T.2 n_s0)) ((ext_dI (ext_r _))))
noncomputable def GX99_put_0 (a0 : Nat) (a1 : Int64) (M : FM) : (Nat × Int64 × Int32 × FM) ⊕ (FM) :=
  (.inl (a0, a1, (Int32.ofInt 0), M))
theorem gX99_put_0 (k2 : Nat → Int64 → Int32 → FM → Option (FM)) (a0 : Nat) (a1 : Int64) (M : FM) (T : Ty M) : gs (FX99_put_0 fN k2 a0 a1 M) (GX99_put_0 a0 a1 M) (kX99_put k2) (pX99_put M) := by
  delta FX99_put_0 BX99_put_0
  exact And.intro rfl (And.intro (And.intro T.1 T.2) ((ext_r _)))
noncomputable def GX99_put_2 (a0 : Nat) (a1 : Int64) (a3 : Int32) (M : FM) : (Nat × Int64 × Int32 × FM) ⊕ (FM) :=
  fi ((Int32.ofInt 220) ≤ a3) (
    (.inr M)) (
    fi ((Int32.ofInt 4) ≤ a3) (
      GX99_put_30 a0 a1 a3 a0 a3 (Int32.ofInt 0) M) (
      GX99_put_30 a0 a1 a3 a0 a3 (((a1.toUInt64 >>> (((Int32.ofInt 16) * a3).toInt64.toUInt64 &&& Int64.toUInt64 63)).toInt64).toInt32 &&& (Int32.ofInt 65535)) M))
def HX99_put_2 (a0 : Nat) (a1 : Int64) (a3 : Int32) (M : FM) : Prop := (((Int32.ofInt 220) ≤ a3 → True) ∧ (¬ ((Int32.ofInt 220) ≤ a3) → (((Int32.ofInt 4) ≤ a3 → HX99_put_30 a0 a1 a3 a0 a3 (Int32.ofInt 0) M) ∧ (¬ ((Int32.ofInt 4) ≤ a3) → HX99_put_30 a0 a1 a3 a0 a3 (((a1.toUInt64 >>> (((Int32.ofInt 16) * a3).toInt64.toUInt64 &&& Int64.toUInt64 63)).toInt64).toInt32 &&& (Int32.ofInt 65535)) M))))
theorem gX99_put_2 (k2 : Nat → Int64 → Int32 → FM → Option (FM)) (a0 : Nat) (a1 : Int64) (a3 : Int32) (M : FM) (T : Ty M) (n_a0 : fm_is M 901 901 a0 = true) (h : HX99_put_2 a0 a1 a3 M) : gs (FX99_put_2 fN k2 a0 a1 a3 M) (GX99_put_2 a0 a1 a3 M) (kX99_put k2) (pX99_put M) := by
  delta FX99_put_2 BX99_put_2
  refine gs_fi (fun c0_0 => ?_) (fun c0_0 => ?_)
  · exact And.intro rfl (And.intro (And.intro T.1 T.2) ((ext_r _)))
  · refine gs_fi (fun c1_0 => ?_) (fun c1_0 => ?_)
    · exact gs_t (pX99_put_t (ext_r _)) (gX99_put_30 k2 _ _ _ _ _ _ _ ⟨T.1, T.2⟩ n_a0 ((h.2 c0_0).1 c1_0))
    · exact gs_t (pX99_put_t (ext_r _)) (gX99_put_30 k2 _ _ _ _ _ _ _ ⟨T.1, T.2⟩ n_a0 ((h.2 c0_0).2 c1_0))
noncomputable def GX99_put (a0 : Nat) (a1 : Int64) (M : FM) : FM := (FX99_put fN a0 a1 M).getD M
def HX99_put (a0 : Nat) (a1 : Int64) (M : FM) : Prop := ∃ r, FX99_put fN a0 a1 M = some r ∧ OkV M r
theorem gX99_put (a0 : Nat) (a1 : Int64) (M : FM) (h : HX99_put a0 a1 M) : gd (FX99_put fN a0 a1 M) (GX99_put a0 a1 M) (OkV M) := gd_op h
noncomputable def GX99_digit_0 (a0 : Int64) (a2 : Int32) (M : FM) : Int32 × FM :=
  ((((a0.toUInt64 >>> (((Int32.ofInt 16) * a2).toInt64.toUInt64 &&& Int64.toUInt64 63)).toInt64).toInt32 &&& (Int32.ofInt 65535)), M)
theorem gX99_digit_0 (a0 : Int64) (a2 : Int32) (M : FM) (T : Ty M) : gd (FX99_digit_0 a0 a2 M) (GX99_digit_0 a0 a2 M) (OkR M) := by
  delta FX99_digit_0 BX99_digit_0
  exact ⟨rfl, ⟨T.1, T.2⟩, (ext_r _)⟩
noncomputable def GX99_digit (a0 : Int64) (a2 : Int32) (M : FM) : Int32 × FM := GX99_digit_0 a0 a2 M
theorem gX99_digit (a0 : Int64) (a2 : Int32) (M : FM) (T : Ty M) : gd (FX99_digit a0 a2 M) (GX99_digit a0 a2 M) (OkR M) := gX99_digit_0 a0 a2 M T 
def kX99_multiply (k8 : Nat → Int64 → Int64 → Int32 → FM → Option (FM)) (k20 : Nat → Int64 → Int64 → Int32 → Int64 → Int32 → FM → Option (FM)) : (Nat × Int64 × Int64 × Int32 × FM) ⊕ (Nat × Int64 × Int64 × Int32 × Int64 × Int32 × FM) ⊕ (FM) → Option (FM)
  | .inl (v0, v1, v2, v3, M') => k8 v0 v1 v2 v3 M'
  | .inr (.inl (v0, v1, v2, v3, v4, v5, M')) => k20 v0 v1 v2 v3 v4 v5 M'
  | .inr (.inr (r)) => some r
def pX99_multiply (M : FM) : (Nat × Int64 × Int64 × Int32 × FM) ⊕ (Nat × Int64 × Int64 × Int32 × Int64 × Int32 × FM) ⊕ (FM) → Prop
  | .inl (_, _, _, _, M') => OkV M M'
  | .inr (.inl (_, _, _, _, _, _, M')) => OkV M M'
  | .inr (.inr (r)) => OkV M r
theorem pX99_multiply_t {M M1 : FM} (e : Ext M M1) : ∀ y, pX99_multiply M1 y → pX99_multiply M y
  | .inl (_, _, _, _, _), h => ⟨h.1, ext_tr e h.2⟩
  | .inr (.inl (_, _, _, _, _, _, _)), h => ⟨h.1, ext_tr e h.2⟩
  | .inr (.inr (r)), h => ⟨h.1, ext_tr e h.2⟩
noncomputable def GX99_multiply_62 (a0 : Nat) (a1 : Int64) (a3 : Int64) (a5 : Int32) (a8 : Int32) (s0 : Int64) (s1 : Int64) (M : FM) : (Nat × Int64 × Int64 × Int32 × FM) ⊕ (Nat × Int64 × Int64 × Int32 × Int64 × Int32 × FM) ⊕ (FM) :=
  let x1 : Int64 := (s0 + s1)
  let x2 : Int32 := (a5 + a8)
  let M3 : FM := fm_sI M 3 a0 x2.toNatClampNeg (x1.toInt32 &&& (Int32.ofInt 65535))
  let x4 : Int64 := (x1 >>> ((Int32.ofInt 16).toInt64 &&& 63))
  let x5 : Int32 := a8 + (Int32.ofInt 1)
  (.inr (.inl (a0, a1, a3, a5, x4, x5, M3)))
def HX99_multiply_62 (a0 : Nat) (a1 : Int64) (a3 : Int64) (a5 : Int32) (a8 : Int32) (s0 : Int64) (s1 : Int64) (M : FM) : Prop := let x1 : Int64 := (s0 + s1); let x2 : Int32 := (a5 + a8); (fm_in M a0 x2 = true ∧ True)
theorem gX99_multiply_62 (k8 : Nat → Int64 → Int64 → Int32 → FM → Option (FM)) (k20 : Nat → Int64 → Int64 → Int32 → Int64 → Int32 → FM → Option (FM)) (a0 : Nat) (a1 : Int64) (a3 : Int64) (a5 : Int32) (a8 : Int32) (s0 : Int64) (s1 : Int64) (M : FM) (T : Ty M) (n_a0 : fm_is M 901 901 a0 = true) (h : HX99_multiply_62 a0 a1 a3 a5 a8 s0 s1 M) : gs (FX99_multiply_62 fN k8 k20 a0 a1 a3 a5 a8 s0 s1 M) (GX99_multiply_62 a0 a1 a3 a5 a8 s0 s1 M) (kX99_multiply k8 k20) (pX99_multiply M) := by
  delta FX99_multiply_62 BX99_multiply_62
  refine gs_c ⟨n_a0, h.1⟩ ?_
  exact And.intro rfl (And.intro (And.intro T.1 (tyb_s3 (t := 901) rfl T.2 n_a0)) ((ext_dI (ext_r _))))
noncomputable def GX99_multiply_0 (a0 : Nat) (a1 : Int64) (a3 : Int64) (M : FM) : (Nat × Int64 × Int64 × Int32 × FM) ⊕ (Nat × Int64 × Int64 × Int32 × Int64 × Int32 × FM) ⊕ (FM) :=
  let M1 : FM := GX99_put a0 (Int64.ofInt 0) M
  (.inl (a0, a1, a3, (Int32.ofInt 0), M1))
def HX99_multiply_0 (a0 : Nat) (a1 : Int64) (a3 : Int64) (M : FM) : Prop := (HX99_put a0 (Int64.ofInt 0) M ∧ True)
theorem gX99_multiply_0 (k8 : Nat → Int64 → Int64 → Int32 → FM → Option (FM)) (k20 : Nat → Int64 → Int64 → Int32 → Int64 → Int32 → FM → Option (FM)) (a0 : Nat) (a1 : Int64) (a3 : Int64) (M : FM) (T : Ty M) (h : HX99_multiply_0 a0 a1 a3 M) : gs (FX99_multiply_0 fN k8 k20 a0 a1 a3 M) (GX99_multiply_0 a0 a1 a3 M) (kX99_multiply k8 k20) (pX99_multiply M) := by
  delta FX99_multiply_0 BX99_multiply_0
  refine gs_b (gX99_put _ _ _ h.1) (fun K0 => ?_)
  exact And.intro rfl (And.intro (And.intro K0.1.1 K0.1.2) K0.2)
noncomputable def GX99_multiply_20 (a0 : Nat) (a1 : Int64) (a3 : Int64) (a5 : Int32) (a6 : Int64) (a8 : Int32) (M : FM) : (Nat × Int64 × Int64 × Int32 × FM) ⊕ (Nat × Int64 × Int64 × Int32 × Int64 × Int32 × FM) ⊕ (FM) :=
  fi ((Int32.ofInt 5) ≤ a8) (
    let x1 : Int32 := a5 + (Int32.ofInt 1)
    (.inl (a0, a1, a3, x1, M))) (
    let x2 : Int32 := (a5 + a8)
    fi ((Int32.ofInt 4) ≤ a8) (
      GX99_multiply_62 a0 a1 a3 a5 a8 ((M.1 3 a0 x2.toNatClampNeg).toInt64 + a6) (Int64.ofInt 0) M) (
      let r3 : Int32 × FM := GX99_digit a1 a5 M
      let r4 : Int32 × FM := GX99_digit a3 a8 r3.2
      GX99_multiply_62 a0 a1 a3 a5 a8 ((M.1 3 a0 x2.toNatClampNeg).toInt64 + a6) (r3.1.toInt64 * r4.1.toInt64) r4.2))
def HX99_multiply_20 (a0 : Nat) (a1 : Int64) (a3 : Int64) (a5 : Int32) (a6 : Int64) (a8 : Int32) (M : FM) : Prop := (((Int32.ofInt 5) ≤ a8 → True) ∧ (¬ ((Int32.ofInt 5) ≤ a8) → let x2 : Int32 := (a5 + a8); (fm_in M a0 x2 = true ∧ (((Int32.ofInt 4) ≤ a8 → HX99_multiply_62 a0 a1 a3 a5 a8 ((M.1 3 a0 x2.toNatClampNeg).toInt64 + a6) (Int64.ofInt 0) M) ∧ (¬ ((Int32.ofInt 4) ≤ a8) → let r3 : Int32 × FM := GX99_digit a1 a5 M; let r4 : Int32 × FM := GX99_digit a3 a8 r3.2; HX99_multiply_62 a0 a1 a3 a5 a8 ((M.1 3 a0 x2.toNatClampNeg).toInt64 + a6) (r3.1.toInt64 * r4.1.toInt64) r4.2)))))
theorem gX99_multiply_20 (k8 : Nat → Int64 → Int64 → Int32 → FM → Option (FM)) (k20 : Nat → Int64 → Int64 → Int32 → Int64 → Int32 → FM → Option (FM)) (a0 : Nat) (a1 : Int64) (a3 : Int64) (a5 : Int32) (a6 : Int64) (a8 : Int32) (M : FM) (T : Ty M) (n_a0 : fm_is M 901 901 a0 = true) (h : HX99_multiply_20 a0 a1 a3 a5 a6 a8 M) : gs (FX99_multiply_20 fN k8 k20 a0 a1 a3 a5 a6 a8 M) (GX99_multiply_20 a0 a1 a3 a5 a6 a8 M) (kX99_multiply k8 k20) (pX99_multiply M) := by
  delta FX99_multiply_20 BX99_multiply_20
  refine gs_fi (fun c0_0 => ?_) (fun c0_0 => ?_)
  · exact And.intro rfl (And.intro (And.intro T.1 T.2) ((ext_r _)))
  · refine gs_c ⟨n_a0, (h.2 c0_0).1⟩ ?_
    refine gs_fi (fun c1_0 => ?_) (fun c1_0 => ?_)
    · exact gs_t (pX99_multiply_t (ext_r _)) (gX99_multiply_62 k8 k20 _ _ _ _ _ _ _ _ ⟨T.1, T.2⟩ n_a0 ((h.2 c0_0).2.1 c1_0))
    · refine gs_b (gX99_digit _ _ _ ⟨T.1, T.2⟩  ) (fun K2 => ?_)
      refine gs_b (gX99_digit _ _ _ ⟨K2.1.1, K2.1.2⟩  ) (fun K3 => ?_)
      have f4 := (ext_is K3.2 (Nat.zero_lt_succ _) (ext_is K2.2 (Nat.zero_lt_succ _) n_a0))
      exact gs_t (pX99_multiply_t (ext_tr K2.2 K3.2)) (gX99_multiply_62 k8 k20 _ _ _ _ _ _ _ _ ⟨K3.1.1, K3.1.2⟩ f4 ((h.2 c0_0).2.2 c1_0))
noncomputable def GX99_multiply_8 (a0 : Nat) (a1 : Int64) (a3 : Int64) (a5 : Int32) (M : FM) : (Nat × Int64 × Int64 × Int32 × FM) ⊕ (Nat × Int64 × Int64 × Int32 × Int64 × Int32 × FM) ⊕ (FM) :=
  fi ((Int32.ofInt 4) ≤ a5) (
    (.inr (.inr M))) (
    (.inr (.inl (a0, a1, a3, a5, (Int64.ofInt 0), (Int32.ofInt 0), M))))
theorem gX99_multiply_8 (k8 : Nat → Int64 → Int64 → Int32 → FM → Option (FM)) (k20 : Nat → Int64 → Int64 → Int32 → Int64 → Int32 → FM → Option (FM)) (a0 : Nat) (a1 : Int64) (a3 : Int64) (a5 : Int32) (M : FM) (T : Ty M) : gs (FX99_multiply_8 fN k8 k20 a0 a1 a3 a5 M) (GX99_multiply_8 a0 a1 a3 a5 M) (kX99_multiply k8 k20) (pX99_multiply M) := by
  delta FX99_multiply_8 BX99_multiply_8
  refine gs_fi (fun c0_0 => ?_) (fun c0_0 => ?_)
  · exact And.intro rfl (And.intro (And.intro T.1 T.2) ((ext_r _)))
  · exact And.intro rfl (And.intro (And.intro T.1 T.2) ((ext_r _)))
noncomputable def GX99_multiply (a0 : Nat) (a1 : Int64) (a2 : Int64) (M : FM) : FM := (FX99_multiply fN a0 a1 a2 M).getD M
def HX99_multiply (a0 : Nat) (a1 : Int64) (a2 : Int64) (M : FM) : Prop := ∃ r, FX99_multiply fN a0 a1 a2 M = some r ∧ OkV M r
theorem gX99_multiply (a0 : Nat) (a1 : Int64) (a2 : Int64) (M : FM) (h : HX99_multiply a0 a1 a2 M) : gd (FX99_multiply fN a0 a1 a2 M) (GX99_multiply a0 a1 a2 M) (OkV M) := gd_op h
