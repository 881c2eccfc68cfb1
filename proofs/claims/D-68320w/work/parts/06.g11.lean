/-! functions without guards, printed by gen/gg.py -/
set_option maxRecDepth 100000
noncomputable def GX98_wanted_34 (s0 : Int64) (M : FM) : Int64 × FM :=
  (s0, M)
theorem gX98_wanted_34 (s0 : Int64) (M : FM) (T : Ty M) : gd (FX98_wanted_34 s0 M) (GX98_wanted_34 s0 M) (OkR M) := by
  delta FX98_wanted_34 BX98_wanted_34
  exact ⟨rfl, ⟨T.1, T.2⟩, (ext_r _)⟩
noncomputable def GX98_wanted_22 (M : FM) : Int64 × FM :=
  GX98_wanted_34 (Int64.ofInt (-1)) M
theorem gX98_wanted_22 (M : FM) (T : Ty M) : gd (FX98_wanted_22 M) (GX98_wanted_22 M) (OkR M) := by
  delta FX98_wanted_22 BX98_wanted_22
  exact gd_tR (ext_r _) (gX98_wanted_34 _ _ ⟨T.1, T.2⟩  )
noncomputable def GX98_wanted_0 (a0 : Nat) (a1 : Int32) (M : FM) : Int64 × FM :=
  let M1 : FM := fm_sI M 345 a0 0 (Int32.ofInt 0)
  fi ((M1.1 353 a0 0) = (Int32.ofInt (-1))) (
    GX98_wanted_22 M1) (
    fi (a1 < 0) (
      GX98_wanted_22 M1) (
      fi (a1 ≤ (Int32.ofInt 4)) (
        let x2 : Nat := (M1.2.2 355 a0 0)
        GX98_wanted_34 (M1.2.1 3 x2 a1.toNatClampNeg) M1) (
        GX98_wanted_22 M1)))
def HX98_wanted_0 (a0 : Nat) (a1 : Int32) (M : FM) : Prop := let M1 : FM := fm_sI M 345 a0 0 (Int32.ofInt 0); (((M1.1 353 a0 0) = (Int32.ofInt (-1)) → True) ∧ (¬ ((M1.1 353 a0 0) = (Int32.ofInt (-1))) → ((a1 < 0 → True) ∧ (¬ (a1 < 0) → ((a1 ≤ (Int32.ofInt 4) → let x2 : Nat := (M1.2.2 355 a0 0); (fm_in M1 x2 a1 = true ∧ True)) ∧ (¬ (a1 ≤ (Int32.ofInt 4)) → True))))))
theorem gX98_wanted_0 (a0 : Nat) (a1 : Int32) (M : FM) (T : Ty M) (n_a0 : fm_is M 94 94 a0 = true) (h : HX98_wanted_0 a0 a1 M) : gd (FX98_wanted_0 a0 a1 M) (GX98_wanted_0 a0 a1 M) (OkR M) := by
  delta FX98_wanted_0 BX98_wanted_0
  refine gd_c n_a0 ?_
  refine gd_c n_a0 ?_
  refine gd_fi (fun c0_0 => ?_) (fun c0_0 => ?_)
  · exact gd_tR (ext_dI (ext_r _)) (gX98_wanted_22  _ ⟨T.1, (tyb_sI (f := 345) rfl T.2)⟩  )
  · refine gd_fi (fun c1_0 => ?_) (fun c1_0 => ?_)
    · exact gd_tR (ext_dI (ext_r _)) (gX98_wanted_22  _ ⟨T.1, (tyb_sI (f := 345) rfl T.2)⟩  )
    · refine gd_fi (fun c2_0 => ?_) (fun c2_0 => ?_)
      · refine gd_c n_a0 ?_
        have f3 := (tN_355 T.1 n_a0)
        have f4 := (((h.2 c0_0).2 c1_0).1 c2_0).1
        refine gd_c ⟨f3, f4⟩ ?_
        exact gd_tR (ext_dI (ext_r _)) (gX98_wanted_34 _ _ ⟨T.1, (tyb_sI (f := 345) rfl T.2)⟩  )
      · exact gd_tR (ext_dI (ext_r _)) (gX98_wanted_22  _ ⟨T.1, (tyb_sI (f := 345) rfl T.2)⟩  )
noncomputable def GX98_wanted (a0 : Nat) (a1 : Int32) (M : FM) : Int64 × FM := GX98_wanted_0 a0 a1 M
def HX98_wanted (a0 : Nat) (a1 : Int32) (M : FM) : Prop := HX98_wanted_0 a0 a1 M
theorem gX98_wanted (a0 : Nat) (a1 : Int32) (M : FM) (T : Ty M) (n_a0 : fm_is M 94 94 a0 = true) (h : HX98_wanted a0 a1 M) : gd (FX98_wanted a0 a1 M) (GX98_wanted a0 a1 M) (OkR M) := gX98_wanted_0 a0 a1 M T n_a0 h
noncomputable def GX100_below_0 (a0 : Nat) (M : FM) : Int32 × FM :=
  let r1 : Int32 × FM := GX100_status a0 (Int32.ofInt 11) M
  let r2 : Int32 × FM := GX100_status a0 (Int32.ofInt 12) r1.2
  ((r1.1 + ((Int32.ofInt 2) * r2.1)), r2.2)
theorem gX100_below_0 (a0 : Nat) (M : FM) (T : Ty M) (n_a0 : fm_is M 95 95 a0 = true) : gd (FX100_below_0 a0 M) (GX100_below_0 a0 M) (OkR M) := by
  delta FX100_below_0 BX100_below_0
  refine gd_c n_a0 ?_
  refine gd_b (gX100_status _ _ _ ⟨T.1, T.2⟩ n_a0 ) (fun K0 => ?_)
  have f1 := (ext_is K0.2 (Nat.zero_lt_succ _) n_a0)
  refine gd_c f1 ?_
  have f3 := (ext_is K0.2 (Nat.zero_lt_succ _) n_a0)
  refine gd_b (gX100_status _ _ _ ⟨K0.1.1, K0.1.2⟩ f3 ) (fun K2 => ?_)
  exact ⟨rfl, ⟨K2.1.1, K2.1.2⟩, (ext_tr K0.2 K2.2)⟩
noncomputable def GX100_below (a0 : Nat) (M : FM) : Int32 × FM := GX100_below_0 a0 M
theorem gX100_below (a0 : Nat) (M : FM) (T : Ty M) (n_a0 : fm_is M 95 95 a0 = true) : gd (FX100_below a0 M) (GX100_below a0 M) (OkR M) := gX100_below_0 a0 M T n_a0 
noncomputable def GX100_dataMode_26 (s0 : Int32) (M : FM) : Int32 × FM :=
  (s0, M)
theorem gX100_dataMode_26 (s0 : Int32) (M : FM) (T : Ty M) : gd (FX100_dataMode_26 s0 M) (GX100_dataMode_26 s0 M) (OkR M) := by
  delta FX100_dataMode_26 BX100_dataMode_26
  exact ⟨rfl, ⟨T.1, T.2⟩, (ext_r _)⟩
noncomputable def GX100_dataMode_0 (a0 : Nat) (M : FM) : Int32 × FM :=
  let M1 : FM := fm_sI M 358 a0 0 (Int32.ofInt 0)
  let r2 : Int32 × FM := GX100_status a0 (Int32.ofInt 17) M1
  fi (r2.1 = (Int32.ofInt 1)) (
    let r3 : Int32 × FM := GX100_below a0 r2.2
    GX100_dataMode_26 r3.1 r3.2) (
    GX100_dataMode_26 (r2.2.1 360 a0 0) r2.2)
theorem gX100_dataMode_0 (a0 : Nat) (M : FM) (T : Ty M) (n_a0 : fm_is M 95 95 a0 = true) : gd (FX100_dataMode_0 a0 M) (GX100_dataMode_0 a0 M) (OkR M) := by
  delta FX100_dataMode_0 BX100_dataMode_0
  refine gd_c n_a0 ?_
  refine gd_c n_a0 ?_
  refine gd_b (gX100_status _ _ _ ⟨T.1, (tyb_sI (f := 358) rfl T.2)⟩ n_a0 ) (fun K0 => ?_)
  refine gd_fi (fun c1_0 => ?_) (fun c1_0 => ?_)
  · have f2 := (ext_is K0.2 (Nat.zero_lt_succ _) n_a0)
    refine gd_c f2 ?_
    have f4 := (ext_is K0.2 (Nat.zero_lt_succ _) n_a0)
    refine gd_b (gX100_below _ _ ⟨K0.1.1, K0.1.2⟩ f4 ) (fun K3 => ?_)
    exact gd_tR (ext_dI (ext_tr K0.2 K3.2)) (gX100_dataMode_26 _ _ ⟨K3.1.1, K3.1.2⟩  )
  · have f5 := (ext_is K0.2 (Nat.zero_lt_succ _) n_a0)
    refine gd_c f5 ?_
    exact gd_tR (ext_dI K0.2) (gX100_dataMode_26 _ _ ⟨K0.1.1, K0.1.2⟩  )
noncomputable def GX100_dataMode (a0 : Nat) (M : FM) : Int32 × FM := GX100_dataMode_0 a0 M
theorem gX100_dataMode (a0 : Nat) (M : FM) (T : Ty M) (n_a0 : fm_is M 95 95 a0 = true) : gd (FX100_dataMode a0 M) (GX100_dataMode a0 M) (OkR M) := gX100_dataMode_0 a0 M T n_a0 
noncomputable def GX92_baseOf_46 (s0 : Int64) (M : FM) : Int64 × FM :=
  (s0, M)
theorem gX92_baseOf_46 (s0 : Int64) (M : FM) (T : Ty M) : gd (FX92_baseOf_46 s0 M) (GX92_baseOf_46 s0 M) (OkR M) := by
  delta FX92_baseOf_46 BX92_baseOf_46
  exact ⟨rfl, ⟨T.1, T.2⟩, (ext_r _)⟩
noncomputable def GX92_baseOf_0 (a0 : Int32) (M : FM) : Int64 × FM :=
  fi (a0 = 0) (
    GX92_baseOf_46 (Int64.ofInt 1048576) M) (
    fi (a0 = (Int32.ofInt 1)) (
      GX92_baseOf_46 (Int64.ofInt 33554432) M) (
      fi (a0 = (Int32.ofInt 2)) (
        GX92_baseOf_46 (Int64.ofInt 201326592) M) (
        fi (a0 = (Int32.ofInt 3)) (
          GX92_baseOf_46 (Int64.ofInt 268435456) M) (
          GX92_baseOf_46 (Int64.ofInt 268439552) M))))
theorem gX92_baseOf_0 (a0 : Int32) (M : FM) (T : Ty M) : gd (FX92_baseOf_0 a0 M) (GX92_baseOf_0 a0 M) (OkR M) := by
  delta FX92_baseOf_0 BX92_baseOf_0
  refine gd_fi (fun c0_0 => ?_) (fun c0_0 => ?_)
  · exact gd_tR (ext_r _) (gX92_baseOf_46 _ _ ⟨T.1, T.2⟩  )
  · refine gd_fi (fun c1_0 => ?_) (fun c1_0 => ?_)
    · exact gd_tR (ext_r _) (gX92_baseOf_46 _ _ ⟨T.1, T.2⟩  )
    · refine gd_fi (fun c2_0 => ?_) (fun c2_0 => ?_)
      · exact gd_tR (ext_r _) (gX92_baseOf_46 _ _ ⟨T.1, T.2⟩  )
      · refine gd_fi (fun c3_0 => ?_) (fun c3_0 => ?_)
        · exact gd_tR (ext_r _) (gX92_baseOf_46 _ _ ⟨T.1, T.2⟩  )
        · exact gd_tR (ext_r _) (gX92_baseOf_46 _ _ ⟨T.1, T.2⟩  )
noncomputable def GX92_baseOf (a0 : Int32) (M : FM) : Int64 × FM := GX92_baseOf_0 a0 M
theorem gX92_baseOf (a0 : Int32) (M : FM) (T : Ty M) : gd (FX92_baseOf a0 M) (GX92_baseOf a0 M) (OkR M) := gX92_baseOf_0 a0 M T 
def kX92_windowOf (k2 : Int64 → Int32 → Int32 → FM → Option (Int32 × FM)) : (Int64 × Int32 × Int32 × FM) ⊕ (Int32 × FM) → Option (Int32 × FM)
  | .inl (v0, v1, v2, M') => k2 v0 v1 v2 M'
  | .inr (r) => some r
def pX92_windowOf (M : FM) : (Int64 × Int32 × Int32 × FM) ⊕ (Int32 × FM) → Prop
  | .inl (_, _, _, M') => OkV M M'
  | .inr (r) => OkR M r
theorem pX92_windowOf_t {M M1 : FM} (e : Ext M M1) : ∀ y, pX92_windowOf M1 y → pX92_windowOf M y
  | .inl (_, _, _, _), h => ⟨h.1, ext_tr e h.2⟩
  | .inr (r), h => ⟨h.1, ext_tr e h.2⟩
noncomputable def GX92_windowOf_71 (a0 : Int64) (a2 : Int32) (a3 : Int32) (M : FM) : (Int64 × Int32 × Int32 × FM) ⊕ (Int32 × FM) :=
  let x1 : Int32 := a3 + (Int32.ofInt 1)
  (.inl (a0, a2, x1, M))
theorem gX92_windowOf_71 (k2 : Int64 → Int32 → Int32 → FM → Option (Int32 × FM)) (a0 : Int64) (a2 : Int32) (a3 : Int32) (M : FM) (T : Ty M) : gs (FX92_windowOf_71 fN k2 a0 a2 a3 M) (GX92_windowOf_71 a0 a2 a3 M) (kX92_windowOf k2) (pX92_windowOf M) := by
  delta FX92_windowOf_71 BX92_windowOf_71
  exact And.intro rfl (And.intro (And.intro T.1 T.2) ((ext_r _)))
noncomputable def GX92_windowOf_64 (a0 : Int64) (a2 : Int32) (a3 : Int32) (s0 : Int64) (s1 : Int64) (s2 : Int64) (M : FM) : (Int64 × Int32 × Int32 × FM) ⊕ (Int32 × FM) :=
  fi (0 < (lg_cmp s0 (s1 + s2))) (
    GX92_windowOf_71 a0 a2 a3 M) (
    (.inr (a3, M)))
theorem gX92_windowOf_64 (k2 : Int64 → Int32 → Int32 → FM → Option (Int32 × FM)) (a0 : Int64) (a2 : Int32) (a3 : Int32) (s0 : Int64) (s1 : Int64) (s2 : Int64) (M : FM) (T : Ty M) : gs (FX92_windowOf_64 fN k2 a0 a2 a3 s0 s1 s2 M) (GX92_windowOf_64 a0 a2 a3 s0 s1 s2 M) (kX92_windowOf k2) (pX92_windowOf M) := by
  delta FX92_windowOf_64 BX92_windowOf_64
  refine gs_fi (fun c0_0 => ?_) (fun c0_0 => ?_)
  · exact gs_t (pX92_windowOf_t (ext_r _)) (gX92_windowOf_71 k2 _ _ _ _ ⟨T.1, T.2⟩  )
  · exact And.intro rfl (And.intro (And.intro T.1 T.2) ((ext_r _)))
noncomputable def GX92_windowOf_33 (a0 : Int64) (a2 : Int32) (a3 : Int32) (s0 : Int64) (s1 : Int64) (M : FM) : (Int64 × Int32 × Int32 × FM) ⊕ (Int32 × FM) :=
  GX92_windowOf_64 a0 a2 a3 s0 s1 (Int64.ofInt 4096) M
theorem gX92_windowOf_33 (k2 : Int64 → Int32 → Int32 → FM → Option (Int32 × FM)) (a0 : Int64) (a2 : Int32) (a3 : Int32) (s0 : Int64) (s1 : Int64) (M : FM) (T : Ty M) : gs (FX92_windowOf_33 fN k2 a0 a2 a3 s0 s1 M) (GX92_windowOf_33 a0 a2 a3 s0 s1 M) (kX92_windowOf k2) (pX92_windowOf M) := by
  delta FX92_windowOf_33 BX92_windowOf_33
  exact gs_t (pX92_windowOf_t (ext_r _)) (gX92_windowOf_64 k2 _ _ _ _ _ _ _ ⟨T.1, T.2⟩  )
noncomputable def GX92_windowOf_0 (a0 : Int64) (a2 : Int32) (M : FM) : (Int64 × Int32 × Int32 × FM) ⊕ (Int32 × FM) :=
  (.inl (a0, a2, (Int32.ofInt 0), M))
theorem gX92_windowOf_0 (k2 : Int64 → Int32 → Int32 → FM → Option (Int32 × FM)) (a0 : Int64) (a2 : Int32) (M : FM) (T : Ty M) : gs (FX92_windowOf_0 fN k2 a0 a2 M) (GX92_windowOf_0 a0 a2 M) (kX92_windowOf k2) (pX92_windowOf M) := by
  delta FX92_windowOf_0 BX92_windowOf_0
  exact And.intro rfl (And.intro (And.intro T.1 T.2) ((ext_r _)))
noncomputable def GX92_windowOf_2 (a0 : Int64) (a2 : Int32) (a3 : Int32) (M : FM) : (Int64 × Int32 × Int32 × FM) ⊕ (Int32 × FM) :=
  fi ((Int32.ofInt 5) ≤ a3) (
    (.inr ((Int32.ofInt (-1)), M))) (
    let r1 : Int64 × FM := GX92_baseOf a3 M
    fi ((lg_cmp a0 r1.1) < 0) (
      GX92_windowOf_71 a0 a2 a3 r1.2) (
      let r2 : Int64 × FM := GX92_baseOf a3 r1.2
      fi (a3 = 0) (
        GX92_windowOf_33 a0 a2 a3 (a0 + a2.toInt64) r2.1 r2.2) (
        fi (a3 = (Int32.ofInt 4)) (
          GX92_windowOf_33 a0 a2 a3 (a0 + a2.toInt64) r2.1 r2.2) (
          fi (a3 = (Int32.ofInt 1)) (
            GX92_windowOf_64 a0 a2 a3 (a0 + a2.toInt64) r2.1 (Int64.ofInt 65536) r2.2) (
            fi (a3 = (Int32.ofInt 2)) (
              GX92_windowOf_64 a0 a2 a3 (a0 + a2.toInt64) r2.1 (Int64.ofInt 4194304) r2.2) (
              GX92_windowOf_64 a0 a2 a3 (a0 + a2.toInt64) r2.1 (Int64.ofInt 256) r2.2))))))
theorem gX92_windowOf_2 (k2 : Int64 → Int32 → Int32 → FM → Option (Int32 × FM)) (a0 : Int64) (a2 : Int32) (a3 : Int32) (M : FM) (T : Ty M) : gs (FX92_windowOf_2 fN k2 a0 a2 a3 M) (GX92_windowOf_2 a0 a2 a3 M) (kX92_windowOf k2) (pX92_windowOf M) := by
  delta FX92_windowOf_2 BX92_windowOf_2
  refine gs_fi (fun c0_0 => ?_) (fun c0_0 => ?_)
  · exact And.intro rfl (And.intro (And.intro T.1 T.2) ((ext_r _)))
  · refine gs_b (gX92_baseOf _ _ ⟨T.1, T.2⟩  ) (fun K1 => ?_)
    refine gs_fi (fun c2_0 => ?_) (fun c2_0 => ?_)
    · exact gs_t (pX92_windowOf_t K1.2) (gX92_windowOf_71 k2 _ _ _ _ ⟨K1.1.1, K1.1.2⟩  )
    · refine gs_b (gX92_baseOf _ _ ⟨K1.1.1, K1.1.2⟩  ) (fun K3 => ?_)
      refine gs_fi (fun c4_0 => ?_) (fun c4_0 => ?_)
      · exact gs_t (pX92_windowOf_t (ext_tr K1.2 K3.2)) (gX92_windowOf_33 k2 _ _ _ _ _ _ ⟨K3.1.1, K3.1.2⟩  )
      · refine gs_fi (fun c5_0 => ?_) (fun c5_0 => ?_)
        · exact gs_t (pX92_windowOf_t (ext_tr K1.2 K3.2)) (gX92_windowOf_33 k2 _ _ _ _ _ _ ⟨K3.1.1, K3.1.2⟩  )
        · refine gs_fi (fun c6_0 => ?_) (fun c6_0 => ?_)
          · exact gs_t (pX92_windowOf_t (ext_tr K1.2 K3.2)) (gX92_windowOf_64 k2 _ _ _ _ _ _ _ ⟨K3.1.1, K3.1.2⟩  )
          · refine gs_fi (fun c7_0 => ?_) (fun c7_0 => ?_)
            · exact gs_t (pX92_windowOf_t (ext_tr K1.2 K3.2)) (gX92_windowOf_64 k2 _ _ _ _ _ _ _ ⟨K3.1.1, K3.1.2⟩  )
            · exact gs_t (pX92_windowOf_t (ext_tr K1.2 K3.2)) (gX92_windowOf_64 k2 _ _ _ _ _ _ _ ⟨K3.1.1, K3.1.2⟩  )
noncomputable def GX92_windowOf (a0 : Int64) (a1 : Int32) (M : FM) : Int32 × FM := (FX92_windowOf fN a0 a1 M).getD (0, M)
def HX92_windowOf (a0 : Int64) (a1 : Int32) (M : FM) : Prop := ∃ r, FX92_windowOf fN a0 a1 M = some r ∧ OkR M r
theorem gX92_windowOf (a0 : Int64) (a1 : Int32) (M : FM) (h : HX92_windowOf a0 a1 M) : gd (FX92_windowOf fN a0 a1 M) (GX92_windowOf a0 a1 M) (OkR M) := gd_op h
def kX92_finds (k68 : Nat → Int32 → Int64 → Int32 → Int32 → Int32 → Int32 → Int32 → Int32 → FM → Option (Int32 × FM)) (k229 : Nat → Int64 → Int32 → Int32 → Int32 → FM → Option (Int32 × FM)) : (Nat × Int32 × Int64 × Int32 × Int32 × Int32 × Int32 × Int32 × Int32 × FM) ⊕ (Nat × Int64 × Int32 × Int32 × Int32 × FM) ⊕ (Int32 × FM) → Option (Int32 × FM)
  | .inl (v0, v1, v2, v3, v4, v5, v6, v7, v8, M') => k68 v0 v1 v2 v3 v4 v5 v6 v7 v8 M'
  | .inr (.inl (v0, v1, v2, v3, v4, M')) => k229 v0 v1 v2 v3 v4 M'
  | .inr (.inr (r)) => some r
def pX92_finds (M : FM) : (Nat × Int32 × Int64 × Int32 × Int32 × Int32 × Int32 × Int32 × Int32 × FM) ⊕ (Nat × Int64 × Int32 × Int32 × Int32 × FM) ⊕ (Int32 × FM) → Prop
  | .inl (_, _, _, _, _, _, _, _, _, M') => OkV M M'
  | .inr (.inl (_, _, _, _, _, M')) => OkV M M'
  | .inr (.inr (r)) => OkZ M r
theorem pX92_finds_t {M M1 : FM} (e : Ext M M1) : ∀ y, pX92_finds M1 y → pX92_finds M y
  | .inl (_, _, _, _, _, _, _, _, _, _), h => ⟨h.1, ext_tr e h.2⟩
  | .inr (.inl (_, _, _, _, _, _)), h => ⟨h.1, ext_tr e h.2⟩
  | .inr (.inr (r)), h => ⟨h.1, ext_tr e h.2.1, h.2.2⟩
noncomputable def GX92_finds_225 (s0 : Int32) (M : FM) : (Nat × Int32 × Int64 × Int32 × Int32 × Int32 × Int32 × Int32 × Int32 × FM) ⊕ (Nat × Int64 × Int32 × Int32 × Int32 × FM) ⊕ (Int32 × FM) :=
  (.inr (.inr (s0, M)))
theorem gX92_finds_225 (k68 : Nat → Int32 → Int64 → Int32 → Int32 → Int32 → Int32 → Int32 → Int32 → FM → Option (Int32 × FM)) (k229 : Nat → Int64 → Int32 → Int32 → Int32 → FM → Option (Int32 × FM)) (s0 : Int32) (M : FM) (T : Ty M) (z_s0 : s0 = 0 ∨ s0 = 1) : gs (FX92_finds_225 fN k68 k229 s0 M) (GX92_finds_225 s0 M) (kX92_finds k68 k229) (pX92_finds M) := by
  delta FX92_finds_225 BX92_finds_225
  exact gs_z z_s0 ⟨T.1, T.2⟩ (ext_r _) rfl (fun h => h)
noncomputable def GX92_finds_220 (M : FM) : (Nat × Int32 × Int64 × Int32 × Int32 × Int32 × Int32 × Int32 × Int32 × FM) ⊕ (Nat × Int64 × Int32 × Int32 × Int32 × FM) ⊕ (Int32 × FM) :=
  GX92_finds_225 (Int32.ofInt 1) M
theorem gX92_finds_220 (k68 : Nat → Int32 → Int64 → Int32 → Int32 → Int32 → Int32 → Int32 → Int32 → FM → Option (Int32 × FM)) (k229 : Nat → Int64 → Int32 → Int32 → Int32 → FM → Option (Int32 × FM)) (M : FM) (T : Ty M) : gs (FX92_finds_220 fN k68 k229 M) (GX92_finds_220 M) (kX92_finds k68 k229) (pX92_finds M) := by
  delta FX92_finds_220 BX92_finds_220
  exact gs_t (pX92_finds_t (ext_r _)) (gX92_finds_225 k68 k229 _ _ ⟨T.1, T.2⟩ fz_1 )
noncomputable def GX92_finds_188 (a0 : Nat) (a2 : Int64) (a4 : Int32) (a7 : Int32) (s0 : Int32) (M : FM) : (Nat × Int32 × Int64 × Int32 × Int32 × Int32 × Int32 × Int32 × Int32 × FM) ⊕ (Nat × Int64 × Int32 × Int32 × Int32 × FM) ⊕ (Int32 × FM) :=
  let x1 : Nat := (M.2.2 323 a0 0)
  let r2 : Int32 × FM := GX93_areBytes (M.2.1 3 x1 (Int32.ofInt 0).toNatClampNeg) a4.toInt64 M
  fi (r2.1 = 0) (
    fi (s0 = 0) (
      let r3 : Int32 × FM := GX92_fail a0 a7 a2 r2.2
      fi (r3.1 = 0) (
        GX92_finds_225 (Int32.ofInt 0) r3.2) (
        GX92_finds_220 r3.2)) (
      GX92_finds_220 r2.2)) (
    GX92_finds_220 r2.2)
theorem gX92_finds_188 (k68 : Nat → Int32 → Int64 → Int32 → Int32 → Int32 → Int32 → Int32 → Int32 → FM → Option (Int32 × FM)) (k229 : Nat → Int64 → Int32 → Int32 → Int32 → FM → Option (Int32 × FM)) (a0 : Nat) (a2 : Int64) (a4 : Int32) (a7 : Int32) (s0 : Int32) (M : FM) (T : Ty M) (n_a0 : fm_is M 92 92 a0 = true) : gs (FX92_finds_188 fN k68 k229 a0 a2 a4 a7 s0 M) (GX92_finds_188 a0 a2 a4 a7 s0 M) (kX92_finds k68 k229) (pX92_finds M) := by
  delta FX92_finds_188 BX92_finds_188
  refine gs_c n_a0 ?_
  have f7 := (tN_323 T.1 n_a0)
  have f8 := (fm_inl (i := (Int32.ofInt 0)) (tL_323 T.1 n_a0) (by decide))
  refine gs_c ⟨f7, f8⟩ ?_
  refine gs_b (gX93_areBytes _ _ _ ⟨T.1, T.2⟩  ) (fun K0 => ?_)
  refine gs_fi (fun c1_0 => ?_) (fun c1_0 => ?_)
  · refine gs_fi (fun c2_0 => ?_) (fun c2_0 => ?_)
    · have f3 := (ext_is K0.2.1 (Nat.zero_lt_succ _) n_a0)
      refine gs_c f3 ?_
      have f6 := (ext_is K0.2.1 (Nat.zero_lt_succ _) n_a0)
      refine gs_b (gX92_fail _ _ _ _ ⟨K0.1.1, K0.1.2⟩ f6 ) (fun K4 => ?_)
      refine gs_fi (fun c5_0 => ?_) (fun c5_0 => ?_)
      · exact gs_t (pX92_finds_t (ext_tr K0.2.1 K4.2.1)) (gX92_finds_225 k68 k229 _ _ ⟨K4.1.1, K4.1.2⟩ fz_0 )
      · exact gs_t (pX92_finds_t (ext_tr K0.2.1 K4.2.1)) (gX92_finds_220 k68 k229  _ ⟨K4.1.1, K4.1.2⟩  )
    · exact gs_t (pX92_finds_t K0.2.1) (gX92_finds_220 k68 k229  _ ⟨K0.1.1, K0.1.2⟩  )
  · exact gs_t (pX92_finds_t K0.2.1) (gX92_finds_220 k68 k229  _ ⟨K0.1.1, K0.1.2⟩  )
noncomputable def GX92_finds_187 (a0 : Nat) (a2 : Int64) (a4 : Int32) (a7 : Int32) (M : FM) : (Nat × Int32 × Int64 × Int32 × Int32 × Int32 × Int32 × Int32 × Int32 × FM) ⊕ (Nat × Int64 × Int32 × Int32 × Int32 × FM) ⊕ (Int32 × FM) :=
  GX92_finds_188 a0 a2 a4 a7 (Int32.ofInt 0) M
theorem gX92_finds_187 (k68 : Nat → Int32 → Int64 → Int32 → Int32 → Int32 → Int32 → Int32 → Int32 → FM → Option (Int32 × FM)) (k229 : Nat → Int64 → Int32 → Int32 → Int32 → FM → Option (Int32 × FM)) (a0 : Nat) (a2 : Int64) (a4 : Int32) (a7 : Int32) (M : FM) (T : Ty M) (n_a0 : fm_is M 92 92 a0 = true) : gs (FX92_finds_187 fN k68 k229 a0 a2 a4 a7 M) (GX92_finds_187 a0 a2 a4 a7 M) (kX92_finds k68 k229) (pX92_finds M) := by
  delta FX92_finds_187 BX92_finds_187
  exact gs_t (pX92_finds_t (ext_r _)) (gX92_finds_188 k68 k229 _ _ _ _ _ _ ⟨T.1, T.2⟩ n_a0 )
noncomputable def GX92_finds_109 (a0 : Nat) (a1 : Int32) (a2 : Int64) (a4 : Int32) (a5 : Int32) (a6 : Int32) (a7 : Int32) (a8 : Int32) (a9 : Int32) (s0 : Nat) (s1 : Int32) (s2 : Nat) (s3 : Int64) (s4 : Int32) (s5 : Int32) (s6 : Int32) (M : FM) : (Nat × Int32 × Int64 × Int32 × Int32 × Int32 × Int32 × Int32 × Int32 × FM) ⊕ (Nat × Int64 × Int32 × Int32 × Int32 × FM) ⊕ (Int32 × FM) :=
  let r1 : Int64 × FM := GX101_find s2 s3 s4 s5 s6 M
  let M2 : FM := fm_sL r1.2 3 s0 s1.toNatClampNeg r1.1
  let x3 : Nat := (M2.2.2 323 a0 0)
  fi (0 ≤ (lg_cmp (M2.2.1 3 x3 a9.toNatClampNeg) (Int64.ofInt 0))) (
    let x4 : Int32 := a9 + (Int32.ofInt 1)
    (.inl (a0, a1, a2, a4, a5, a6, a7, a8, x4, M2))) (
    let x5 : Nat := (M2.2.2 323 a0 0)
    let r6 : Int32 × FM := GX92_fail a0 ((-(M2.2.1 3 x5 a9.toNatClampNeg)).toInt32) (a2 + a9.toInt64) M2
    (.inr (.inr (r6.1, r6.2))))
def HX92_finds_109 (a0 : Nat) (a1 : Int32) (a2 : Int64) (a4 : Int32) (a5 : Int32) (a6 : Int32) (a7 : Int32) (a8 : Int32) (a9 : Int32) (s0 : Nat) (s1 : Int32) (s2 : Nat) (s3 : Int64) (s4 : Int32) (s5 : Int32) (s6 : Int32) (M : FM) : Prop := (HX101_find s2 s3 s4 s5 s6 M ∧ let r1 : Int64 × FM := GX101_find s2 s3 s4 s5 s6 M; (fm_in r1.2 s0 s1 = true ∧ let M2 : FM := fm_sL r1.2 3 s0 s1.toNatClampNeg r1.1; let x3 : Nat := (M2.2.2 323 a0 0); (fm_in M2 x3 a9 = true ∧ ((0 ≤ (lg_cmp (M2.2.1 3 x3 a9.toNatClampNeg) (Int64.ofInt 0)) → True) ∧ (¬ (0 ≤ (lg_cmp (M2.2.1 3 x3 a9.toNatClampNeg) (Int64.ofInt 0))) → let x5 : Nat := (M2.2.2 323 a0 0); (fm_in M2 x5 a9 = true ∧ True))))))
theorem gX92_finds_109 (k68 : Nat → Int32 → Int64 → Int32 → Int32 → Int32 → Int32 → Int32 → Int32 → FM → Option (Int32 × FM)) (k229 : Nat → Int64 → Int32 → Int32 → Int32 → FM → Option (Int32 × FM)) (a0 : Nat) (a1 : Int32) (a2 : Int64) (a4 : Int32) (a5 : Int32) (a6 : Int32) (a7 : Int32) (a8 : Int32) (a9 : Int32) (s0 : Nat) (s1 : Int32) (s2 : Nat) (s3 : Int64) (s4 : Int32) (s5 : Int32) (s6 : Int32) (M : FM) (T : Ty M) (n_s2 : fm_is M 101 101 s2 = true) (n_s0 : fm_is M 902 902 s0 = true) (n_a0 : fm_is M 92 92 a0 = true) (h : HX92_finds_109 a0 a1 a2 a4 a5 a6 a7 a8 a9 s0 s1 s2 s3 s4 s5 s6 M) : gs (FX92_finds_109 fN k68 k229 a0 a1 a2 a4 a5 a6 a7 a8 a9 s0 s1 s2 s3 s4 s5 s6 M) (GX92_finds_109 a0 a1 a2 a4 a5 a6 a7 a8 a9 s0 s1 s2 s3 s4 s5 s6 M) (kX92_finds k68 k229) (pX92_finds M) := by
  delta FX92_finds_109 BX92_finds_109
  refine gs_c n_s2 ?_
  refine gs_b (gX101_find _ _ _ _ _ _ ⟨T.1, T.2⟩ n_s2 h.1) (fun K0 => ?_)
  have f1 := (ext_is K0.2 (Nat.zero_lt_succ _) n_s0)
  refine gs_c ⟨f1, h.2.1⟩ ?_
  have f2 := (ext_is K0.2 (Nat.zero_lt_succ _) n_a0)
  refine gs_c f2 ?_
  have f9 := (tN_323 K0.1.1 (ext_is K0.2 (Nat.zero_lt_succ _) n_a0))
  refine gs_c ⟨f9, h.2.2.1⟩ ?_
  refine gs_fi (fun c3_0 => ?_) (fun c3_0 => ?_)
  · exact And.intro rfl (And.intro (And.intro K0.1.1 K0.1.2) ((ext_tr K0.2 (ext_dL (ext_r _)))))
  · have f4 := (ext_is K0.2 (Nat.zero_lt_succ _) n_a0)
    refine gs_c f4 ?_
    have f8 := (tN_323 K0.1.1 (ext_is K0.2 (Nat.zero_lt_succ _) n_a0))
    refine gs_c ⟨f8, (h.2.2.2.2 c3_0).1⟩ ?_
    have f5 := (ext_is K0.2 (Nat.zero_lt_succ _) n_a0)
    refine gs_c f5 ?_
    have f7 := (ext_is K0.2 (Nat.zero_lt_succ _) n_a0)
    refine gs_b (gX92_fail _ _ _ _ ⟨K0.1.1, K0.1.2⟩ f7 ) (fun K6 => ?_)
    exact gs_z K6.2.2 ⟨K6.1.1, K6.1.2⟩ (ext_tr K0.2 (ext_dL K6.2.1)) rfl (fun h => h)
noncomputable def GX92_finds_63 (a0 : Nat) (a1 : Int32) (a2 : Int64) (a4 : Int32) (a5 : Int32) (a6 : Int32) (a7 : Int32) (s0 : Int32) (M : FM) : (Nat × Int32 × Int64 × Int32 × Int32 × Int32 × Int32 × Int32 × Int32 × FM) ⊕ (Nat × Int64 × Int32 × Int32 × Int32 × FM) ⊕ (Int32 × FM) :=
  (.inl (a0, a1, a2, a4, a5, a6, a7, s0, (Int32.ofInt 0), M))
theorem gX92_finds_63 (k68 : Nat → Int32 → Int64 → Int32 → Int32 → Int32 → Int32 → Int32 → Int32 → FM → Option (Int32 × FM)) (k229 : Nat → Int64 → Int32 → Int32 → Int32 → FM → Option (Int32 × FM)) (a0 : Nat) (a1 : Int32) (a2 : Int64) (a4 : Int32) (a5 : Int32) (a6 : Int32) (a7 : Int32) (s0 : Int32) (M : FM) (T : Ty M) : gs (FX92_finds_63 fN k68 k229 a0 a1 a2 a4 a5 a6 a7 s0 M) (GX92_finds_63 a0 a1 a2 a4 a5 a6 a7 s0 M) (kX92_finds k68 k229) (pX92_finds M) := by
  delta FX92_finds_63 BX92_finds_63
  exact And.intro rfl (And.intro (And.intro T.1 T.2) ((ext_r _)))
noncomputable def GX92_finds_47 (a0 : Nat) (a1 : Int32) (a2 : Int64) (a4 : Int32) (a5 : Int32) (a6 : Int32) (a7 : Int32) (s0 : Nat) (s1 : Int32) (M : FM) : (Nat × Int32 × Int64 × Int32 × Int32 × Int32 × Int32 × Int32 × Int32 × FM) ⊕ (Nat × Int64 × Int32 × Int32 × Int32 × FM) ⊕ (Int32 × FM) :=
  let M1 : FM := fm_sI M 322 s0 0 s1
  fi ((M1.1 322 a0 0) = 0) (
    GX92_finds_63 a0 a1 a2 a4 a5 a6 a7 a4 M1) (
    GX92_finds_63 a0 a1 a2 a4 a5 a6 a7 (Int32.ofInt 1) M1)
theorem gX92_finds_47 (k68 : Nat → Int32 → Int64 → Int32 → Int32 → Int32 → Int32 → Int32 → Int32 → FM → Option (Int32 × FM)) (k229 : Nat → Int64 → Int32 → Int32 → Int32 → FM → Option (Int32 × FM)) (a0 : Nat) (a1 : Int32) (a2 : Int64) (a4 : Int32) (a5 : Int32) (a6 : Int32) (a7 : Int32) (s0 : Nat) (s1 : Int32) (M : FM) (T : Ty M) (n_s0 : fm_is M 92 92 s0 = true) (z_s1 : s1 = 0 ∨ s1 = 1) (n_a0 : fm_is M 92 92 a0 = true) : gs (FX92_finds_47 fN k68 k229 a0 a1 a2 a4 a5 a6 a7 s0 s1 M) (GX92_finds_47 a0 a1 a2 a4 a5 a6 a7 s0 s1 M) (kX92_finds k68 k229) (pX92_finds M) := by
  delta FX92_finds_47 BX92_finds_47
  refine gs_c n_s0 ?_
  refine gs_c z_s1 ?_
  refine gs_c n_a0 ?_
  refine gs_fi (fun c0_0 => ?_) (fun c0_0 => ?_)
  · exact gs_t (pX92_finds_t (ext_dI (ext_r _))) (gX92_finds_63 k68 k229 _ _ _ _ _ _ _ _ _ ⟨T.1, (tyb_sIb (f := 322) rfl T.2 z_s1)⟩  )
  · exact gs_t (pX92_finds_t (ext_dI (ext_r _))) (gX92_finds_63 k68 k229 _ _ _ _ _ _ _ _ _ ⟨T.1, (tyb_sIb (f := 322) rfl T.2 z_s1)⟩  )
noncomputable def GX92_finds_23 (a0 : Nat) (a1 : Int32) (a2 : Int64) (a4 : Int32) (a5 : Int32) (a6 : Int32) (s0 : Int32) (M : FM) : (Nat × Int32 × Int64 × Int32 × Int32 × Int32 × Int32 × Int32 × Int32 × FM) ⊕ (Nat × Int64 × Int32 × Int32 × Int32 × FM) ⊕ (Int32 × FM) :=
  fi (0 < (lg_cmp ((a2 &&& (Int64.ofInt 4095)) + a4.toInt64) (Int64.ofInt 4096))) (
    GX92_finds_47 a0 a1 a2 a4 a5 a6 s0 a0 (Int32.ofInt 0) M) (
    GX92_finds_47 a0 a1 a2 a4 a5 a6 s0 a0 (Int32.ofInt 1) M)
theorem gX92_finds_23 (k68 : Nat → Int32 → Int64 → Int32 → Int32 → Int32 → Int32 → Int32 → Int32 → FM → Option (Int32 × FM)) (k229 : Nat → Int64 → Int32 → Int32 → Int32 → FM → Option (Int32 × FM)) (a0 : Nat) (a1 : Int32) (a2 : Int64) (a4 : Int32) (a5 : Int32) (a6 : Int32) (s0 : Int32) (M : FM) (T : Ty M) (n_a0 : fm_is M 92 92 a0 = true) : gs (FX92_finds_23 fN k68 k229 a0 a1 a2 a4 a5 a6 s0 M) (GX92_finds_23 a0 a1 a2 a4 a5 a6 s0 M) (kX92_finds k68 k229) (pX92_finds M) := by
  delta FX92_finds_23 BX92_finds_23
  refine gs_fi (fun c0_0 => ?_) (fun c0_0 => ?_)
  · exact gs_t (pX92_finds_t (ext_r _)) (gX92_finds_47 k68 k229 _ _ _ _ _ _ _ _ _ _ ⟨T.1, T.2⟩ n_a0 fz_0 n_a0 )
  · exact gs_t (pX92_finds_t (ext_r _)) (gX92_finds_47 k68 k229 _ _ _ _ _ _ _ _ _ _ ⟨T.1, T.2⟩ n_a0 fz_1 n_a0 )
noncomputable def GX92_finds_0 (a0 : Nat) (a1 : Int32) (a2 : Int64) (a4 : Int32) (a5 : Int32) (M : FM) : (Nat × Int32 × Int64 × Int32 × Int32 × Int32 × Int32 × Int32 × Int32 × FM) ⊕ (Nat × Int64 × Int32 × Int32 × Int32 × FM) ⊕ (Int32 × FM) :=
  let x1 : Nat := (M.2.2 305 a0 0)
  let x2 : Nat := (M.2.2 3 x1 a1.toNatClampNeg)
  let r3 : Int32 × FM := GX100_dataMode x2 M
  fi (a5 = (Int32.ofInt 1)) (
    GX92_finds_23 a0 a1 a2 a4 a5 r3.1 (Int32.ofInt 5) r3.2) (
    GX92_finds_23 a0 a1 a2 a4 a5 r3.1 (Int32.ofInt 7) r3.2)
def HX92_finds_0 (a0 : Nat) (a1 : Int32) (a2 : Int64) (a4 : Int32) (a5 : Int32) (M : FM) : Prop := let x1 : Nat := (M.2.2 305 a0 0); (fm_in M x1 a1 = true ∧ let x2 : Nat := (M.2.2 3 x1 a1.toNatClampNeg); (fm_is M 95 95 x2 = true ∧ True))
theorem gX92_finds_0 (k68 : Nat → Int32 → Int64 → Int32 → Int32 → Int32 → Int32 → Int32 → Int32 → FM → Option (Int32 × FM)) (k229 : Nat → Int64 → Int32 → Int32 → Int32 → FM → Option (Int32 × FM)) (a0 : Nat) (a1 : Int32) (a2 : Int64) (a4 : Int32) (a5 : Int32) (M : FM) (T : Ty M) (n_a0 : fm_is M 92 92 a0 = true) (h : HX92_finds_0 a0 a1 a2 a4 a5 M) : gs (FX92_finds_0 fN k68 k229 a0 a1 a2 a4 a5 M) (GX92_finds_0 a0 a1 a2 a4 a5 M) (kX92_finds k68 k229) (pX92_finds M) := by
  delta FX92_finds_0 BX92_finds_0
  refine gs_c n_a0 ?_
  have f4 := (fm_w (lo' := 910) (hi' := 990) rfl rfl (tN_305 T.1 n_a0))
  refine gs_c ⟨f4, h.1⟩ ?_
  refine gs_c h.2.1 ?_
  refine gs_b (gX100_dataMode _ _ ⟨T.1, T.2⟩ h.2.1 ) (fun K0 => ?_)
  refine gs_fi (fun c1_0 => ?_) (fun c1_0 => ?_)
  · have f2 := (ext_is K0.2 (Nat.zero_lt_succ _) n_a0)
    exact gs_t (pX92_finds_t K0.2) (gX92_finds_23 k68 k229 _ _ _ _ _ _ _ _ ⟨K0.1.1, K0.1.2⟩ f2 )
  · have f3 := (ext_is K0.2 (Nat.zero_lt_succ _) n_a0)
    exact gs_t (pX92_finds_t K0.2) (gX92_finds_23 k68 k229 _ _ _ _ _ _ _ _ ⟨K0.1.1, K0.1.2⟩ f3 )
noncomputable def GX92_finds_229 (a0 : Nat) (a2 : Int64) (a4 : Int32) (a7 : Int32) (a9 : Int32) (M : FM) : (Nat × Int32 × Int64 × Int32 × Int32 × Int32 × Int32 × Int32 × Int32 × FM) ⊕ (Nat × Int64 × Int32 × Int32 × Int32 × FM) ⊕ (Int32 × FM) :=
  fi (a4 ≤ a9) (
    (.inr (.inr ((Int32.ofInt 1), M)))) (
    let x1 : Nat := (M.2.2 323 a0 0)
    let r2 : Int32 × FM := GX93_isByte (M.2.1 3 x1 a9.toNatClampNeg) M
    fi (r2.1 = 0) (
      let r3 : Int32 × FM := GX92_fail a0 a7 (a2 + a9.toInt64) r2.2
      (.inr (.inr (r3.1, r3.2)))) (
      let x4 : Int32 := a9 + (Int32.ofInt 1)
      (.inr (.inl (a0, a2, a4, a7, x4, r2.2)))))
def HX92_finds_229 (a0 : Nat) (a2 : Int64) (a4 : Int32) (a7 : Int32) (a9 : Int32) (M : FM) : Prop := ((a4 ≤ a9 → True) ∧ (¬ (a4 ≤ a9) → let x1 : Nat := (M.2.2 323 a0 0); (fm_in M x1 a9 = true ∧ True)))
theorem gX92_finds_229 (k68 : Nat → Int32 → Int64 → Int32 → Int32 → Int32 → Int32 → Int32 → Int32 → FM → Option (Int32 × FM)) (k229 : Nat → Int64 → Int32 → Int32 → Int32 → FM → Option (Int32 × FM)) (a0 : Nat) (a2 : Int64) (a4 : Int32) (a7 : Int32) (a9 : Int32) (M : FM) (T : Ty M) (n_a0 : fm_is M 92 92 a0 = true) (h : HX92_finds_229 a0 a2 a4 a7 a9 M) : gs (FX92_finds_229 fN k68 k229 a0 a2 a4 a7 a9 M) (GX92_finds_229 a0 a2 a4 a7 a9 M) (kX92_finds k68 k229) (pX92_finds M) := by
  delta FX92_finds_229 BX92_finds_229
  refine gs_fi (fun c0_0 => ?_) (fun c0_0 => ?_)
  · exact gs_z fz_1 ⟨T.1, T.2⟩ (ext_r _) rfl (fun h => h)
  · refine gs_c n_a0 ?_
    have f6 := (tN_323 T.1 n_a0)
    refine gs_c ⟨f6, (h.2 c0_0).1⟩ ?_
    refine gs_b (gX93_isByte _ _ ⟨T.1, T.2⟩  ) (fun K1 => ?_)
    refine gs_fi (fun c2_0 => ?_) (fun c2_0 => ?_)
    · have f3 := (ext_is K1.2.1 (Nat.zero_lt_succ _) n_a0)
      refine gs_c f3 ?_
      have f5 := (ext_is K1.2.1 (Nat.zero_lt_succ _) n_a0)
      refine gs_b (gX92_fail _ _ _ _ ⟨K1.1.1, K1.1.2⟩ f5 ) (fun K4 => ?_)
      exact gs_z K4.2.2 ⟨K4.1.1, K4.1.2⟩ (ext_tr K1.2.1 K4.2.1) rfl (fun h => h)
    · exact And.intro rfl (And.intro (And.intro K1.1.1 K1.1.2) K1.2.1)
noncomputable def GX92_finds_68 (a0 : Nat) (a1 : Int32) (a2 : Int64) (a4 : Int32) (a5 : Int32) (a6 : Int32) (a7 : Int32) (a8 : Int32) (a9 : Int32) (M : FM) : (Nat × Int32 × Int64 × Int32 × Int32 × Int32 × Int32 × Int32 × Int32 × FM) ⊕ (Nat × Int64 × Int32 × Int32 × Int32 × FM) ⊕ (Int32 × FM) :=
  fi (a8 ≤ a9) (
    fi ((M.1 322 a0 0) = 0) (
      (.inr (.inl (a0, a2, a4, a7, (Int32.ofInt 0), M)))) (
      fi ((lg_cmp (a2 &&& (a4.toInt64 - (Int64.ofInt 1))) (Int64.ofInt 0)) = 0) (
        let x1 : Nat := (M.2.2 323 a0 0)
        let r2 : Int32 × FM := GX92_windowOf (M.2.1 3 x1 (Int32.ofInt 0).toNatClampNeg) a4 M
        fi (r2.1 < 0) (
          GX92_finds_187 a0 a2 a4 a7 r2.2) (
          GX92_finds_188 a0 a2 a4 a7 (Int32.ofInt 1) r2.2)) (
        GX92_finds_187 a0 a2 a4 a7 M))) (
    let x3 : Nat := (M.2.2 306 a0 0)
    fi ((M.1 322 a0 0) = 0) (
      GX92_finds_109 a0 a1 a2 a4 a5 a6 a7 a8 a9 (M.2.2 323 a0 0) a9 (M.2.2 3 x3 a1.toNatClampNeg) (a2 + a9.toInt64) a5 a6 (Int32.ofInt 1) M) (
      GX92_finds_109 a0 a1 a2 a4 a5 a6 a7 a8 a9 (M.2.2 323 a0 0) a9 (M.2.2 3 x3 a1.toNatClampNeg) (a2 + a9.toInt64) a5 a6 a4 M))
def HX92_finds_68 (a0 : Nat) (a1 : Int32) (a2 : Int64) (a4 : Int32) (a5 : Int32) (a6 : Int32) (a7 : Int32) (a8 : Int32) (a9 : Int32) (M : FM) : Prop := ((a8 ≤ a9 → (((M.1 322 a0 0) = 0 → True) ∧ (¬ ((M.1 322 a0 0) = 0) → (((lg_cmp (a2 &&& (a4.toInt64 - (Int64.ofInt 1))) (Int64.ofInt 0)) = 0 → let x1 : Nat := (M.2.2 323 a0 0); (HX92_windowOf (M.2.1 3 x1 (Int32.ofInt 0).toNatClampNeg) a4 M ∧ True)) ∧ (¬ ((lg_cmp (a2 &&& (a4.toInt64 - (Int64.ofInt 1))) (Int64.ofInt 0)) = 0) → True))))) ∧ (¬ (a8 ≤ a9) → let x3 : Nat := (M.2.2 306 a0 0); (fm_in M x3 a1 = true ∧ (((M.1 322 a0 0) = 0 → (fm_is M 101 101 (M.2.2 3 x3 a1.toNatClampNeg) = true ∧ HX92_finds_109 a0 a1 a2 a4 a5 a6 a7 a8 a9 (M.2.2 323 a0 0) a9 (M.2.2 3 x3 a1.toNatClampNeg) (a2 + a9.toInt64) a5 a6 (Int32.ofInt 1) M)) ∧ (¬ ((M.1 322 a0 0) = 0) → (fm_is M 101 101 (M.2.2 3 x3 a1.toNatClampNeg) = true ∧ HX92_finds_109 a0 a1 a2 a4 a5 a6 a7 a8 a9 (M.2.2 323 a0 0) a9 (M.2.2 3 x3 a1.toNatClampNeg) (a2 + a9.toInt64) a5 a6 a4 M))))))
theorem gX92_finds_68 (k68 : Nat → Int32 → Int64 → Int32 → Int32 → Int32 → Int32 → Int32 → Int32 → FM → Option (Int32 × FM)) (k229 : Nat → Int64 → Int32 → Int32 → Int32 → FM → Option (Int32 × FM)) (a0 : Nat) (a1 : Int32) (a2 : Int64) (a4 : Int32) (a5 : Int32) (a6 : Int32) (a7 : Int32) (a8 : Int32) (a9 : Int32) (M : FM) (T : Ty M) (n_a0 : fm_is M 92 92 a0 = true) (h : HX92_finds_68 a0 a1 a2 a4 a5 a6 a7 a8 a9 M) : gs (FX92_finds_68 fN k68 k229 a0 a1 a2 a4 a5 a6 a7 a8 a9 M) (GX92_finds_68 a0 a1 a2 a4 a5 a6 a7 a8 a9 M) (kX92_finds k68 k229) (pX92_finds M) := by
  delta FX92_finds_68 BX92_finds_68
  refine gs_fi (fun c0_0 => ?_) (fun c0_0 => ?_)
  · refine gs_c n_a0 ?_
    refine gs_fi (fun c1_0 => ?_) (fun c1_0 => ?_)
    · exact And.intro rfl (And.intro (And.intro T.1 T.2) ((ext_r _)))
    · refine gs_fi (fun c2_0 => ?_) (fun c2_0 => ?_)
      · refine gs_c n_a0 ?_
        have f7 := (tN_323 T.1 n_a0)
        have f8 := (fm_inl (i := (Int32.ofInt 0)) (tL_323 T.1 n_a0) (by decide))
        refine gs_c ⟨f7, f8⟩ ?_
        refine gs_b (gX92_windowOf _ _ _ (((h.1 c0_0).2 c1_0).1 c2_0).1) (fun K3 => ?_)
        refine gs_fi (fun c4_0 => ?_) (fun c4_0 => ?_)
        · have f5 := (ext_is K3.2 (Nat.zero_lt_succ _) n_a0)
          exact gs_t (pX92_finds_t K3.2) (gX92_finds_187 k68 k229 _ _ _ _ _ ⟨K3.1.1, K3.1.2⟩ f5 )
        · have f6 := (ext_is K3.2 (Nat.zero_lt_succ _) n_a0)
          exact gs_t (pX92_finds_t K3.2) (gX92_finds_188 k68 k229 _ _ _ _ _ _ ⟨K3.1.1, K3.1.2⟩ f6 )
      · exact gs_t (pX92_finds_t (ext_r _)) (gX92_finds_187 k68 k229 _ _ _ _ _ ⟨T.1, T.2⟩ n_a0 )
  · refine gs_c n_a0 ?_
    refine gs_c n_a0 ?_
    have f14 := (fm_w (lo' := 910) (hi' := 990) rfl rfl (tN_306 T.1 n_a0))
    refine gs_c ⟨f14, (h.2 c0_0).1⟩ ?_
    refine gs_c n_a0 ?_
    refine gs_fi (fun c9_0 => ?_) (fun c9_0 => ?_)
    · have f10 := ((h.2 c0_0).2.1 c9_0).1
      have f11 := (tN_323 T.1 n_a0)
      exact gs_t (pX92_finds_t (ext_r _)) (gX92_finds_109 k68 k229 _ _ _ _ _ _ _ _ _ _ _ _ _ _ _ _ _ ⟨T.1, T.2⟩ f10 f11 n_a0 ((h.2 c0_0).2.1 c9_0).2)
    · have f12 := ((h.2 c0_0).2.2 c9_0).1
      have f13 := (tN_323 T.1 n_a0)
      exact gs_t (pX92_finds_t (ext_r _)) (gX92_finds_109 k68 k229 _ _ _ _ _ _ _ _ _ _ _ _ _ _ _ _ _ ⟨T.1, T.2⟩ f12 f13 n_a0 ((h.2 c0_0).2.2 c9_0).2)
noncomputable def GX92_finds (a0 : Nat) (a1 : Int32) (a2 : Int64) (a3 : Int32) (a4 : Int32) (M : FM) : Int32 × FM := (FX92_finds fN a0 a1 a2 a3 a4 M).getD (0, M)
def HX92_finds (a0 : Nat) (a1 : Int32) (a2 : Int64) (a3 : Int32) (a4 : Int32) (M : FM) : Prop := ∃ r, FX92_finds fN a0 a1 a2 a3 a4 M = some r ∧ OkZ M r
theorem gX92_finds (a0 : Nat) (a1 : Int32) (a2 : Int64) (a3 : Int32) (a4 : Int32) (M : FM) (h : HX92_finds a0 a1 a2 a3 a4 M) : gd (FX92_finds fN a0 a1 a2 a3 a4 M) (GX92_finds a0 a1 a2 a3 a4 M) (OkZ M) := gd_op h
def kX101_isOpen (k2 : Nat → Int64 → Int32 → FM → Option (Int32 × FM)) : (Nat × Int64 × Int32 × FM) ⊕ (Int32 × FM) → Option (Int32 × FM)
  | .inl (v0, v1, v2, M') => k2 v0 v1 v2 M'
  | .inr (r) => some r
def pX101_isOpen (M : FM) : (Nat × Int64 × Int32 × FM) ⊕ (Int32 × FM) → Prop
  | .inl (_, _, _, M') => OkV M M'
  | .inr (r) => OkZ M r
theorem pX101_isOpen_t {M M1 : FM} (e : Ext M M1) : ∀ y, pX101_isOpen M1 y → pX101_isOpen M y
  | .inl (_, _, _, _), h => ⟨h.1, ext_tr e h.2⟩
  | .inr (r), h => ⟨h.1, ext_tr e h.2.1, h.2.2⟩
noncomputable def GX101_isOpen_38 (a0 : Nat) (a1 : Int64) (a3 : Int32) (M : FM) : (Nat × Int64 × Int32 × FM) ⊕ (Int32 × FM) :=
  let x1 : Int32 := a3 + (Int32.ofInt 1)
  (.inl (a0, a1, x1, M))
theorem gX101_isOpen_38 (k2 : Nat → Int64 → Int32 → FM → Option (Int32 × FM)) (a0 : Nat) (a1 : Int64) (a3 : Int32) (M : FM) (T : Ty M) : gs (FX101_isOpen_38 fN k2 a0 a1 a3 M) (GX101_isOpen_38 a0 a1 a3 M) (kX101_isOpen k2) (pX101_isOpen M) := by
  delta FX101_isOpen_38 BX101_isOpen_38
  exact And.intro rfl (And.intro (And.intro T.1 T.2) ((ext_r _)))
noncomputable def GX101_isOpen_0 (a0 : Nat) (a1 : Int64) (M : FM) : (Nat × Int64 × Int32 × FM) ⊕ (Int32 × FM) :=
  (.inl (a0, a1, (Int32.ofInt 0), M))
theorem gX101_isOpen_0 (k2 : Nat → Int64 → Int32 → FM → Option (Int32 × FM)) (a0 : Nat) (a1 : Int64) (M : FM) (T : Ty M) : gs (FX101_isOpen_0 fN k2 a0 a1 M) (GX101_isOpen_0 a0 a1 M) (kX101_isOpen k2) (pX101_isOpen M) := by
  delta FX101_isOpen_0 BX101_isOpen_0
  exact And.intro rfl (And.intro (And.intro T.1 T.2) ((ext_r _)))
noncomputable def GX101_isOpen_2 (a0 : Nat) (a1 : Int64) (a3 : Int32) (M : FM) : (Nat × Int64 × Int32 × FM) ⊕ (Int32 × FM) :=
  fi ((Int32.ofInt 8) ≤ a3) (
    (.inr ((Int32.ofInt 0), M))) (
    let M1 : FM := GX101_cover a0 a3 M
    fi ((lg_cmp a1 (M1.2.1 429 a0 0)) < 0) (
      GX101_isOpen_38 a0 a1 a3 M1) (
      fi (0 ≤ (lg_cmp a1 (M1.2.1 430 a0 0))) (
        GX101_isOpen_38 a0 a1 a3 M1) (
        let r2 : Int32 × FM := GX101_has a0 a3 (Int32.ofInt 1) M1
        (.inr (r2.1, r2.2)))))
def HX101_isOpen_2 (a0 : Nat) (a1 : Int64) (a3 : Int32) (M : FM) : Prop := (((Int32.ofInt 8) ≤ a3 → True) ∧ (¬ ((Int32.ofInt 8) ≤ a3) → (HX101_cover a0 a3 M ∧ let M1 : FM := GX101_cover a0 a3 M; (((lg_cmp a1 (M1.2.1 429 a0 0)) < 0 → True) ∧ (¬ ((lg_cmp a1 (M1.2.1 429 a0 0)) < 0) → ((0 ≤ (lg_cmp a1 (M1.2.1 430 a0 0)) → True) ∧ (¬ (0 ≤ (lg_cmp a1 (M1.2.1 430 a0 0))) → (HX101_has a0 a3 (Int32.ofInt 1) M1 ∧ True))))))))
theorem gX101_isOpen_2 (k2 : Nat → Int64 → Int32 → FM → Option (Int32 × FM)) (a0 : Nat) (a1 : Int64) (a3 : Int32) (M : FM) (T : Ty M) (n_a0 : fm_is M 101 101 a0 = true) (h : HX101_isOpen_2 a0 a1 a3 M) : gs (FX101_isOpen_2 fN k2 a0 a1 a3 M) (GX101_isOpen_2 a0 a1 a3 M) (kX101_isOpen k2) (pX101_isOpen M) := by
  delta FX101_isOpen_2 BX101_isOpen_2
  refine gs_fi (fun c0_0 => ?_) (fun c0_0 => ?_)
  · exact gs_z fz_0 ⟨T.1, T.2⟩ (ext_r _) rfl (fun h => h)
  · refine gs_c n_a0 ?_
    refine gs_b (gX101_cover _ _ _ (h.2 c0_0).1) (fun K1 => ?_)
    have f2 := (ext_is K1.2 (Nat.zero_lt_succ _) n_a0)
    refine gs_c f2 ?_
    refine gs_fi (fun c3_0 => ?_) (fun c3_0 => ?_)
    · exact gs_t (pX101_isOpen_t K1.2) (gX101_isOpen_38 k2 _ _ _ _ ⟨K1.1.1, K1.1.2⟩  )
    · have f4 := (ext_is K1.2 (Nat.zero_lt_succ _) n_a0)
      refine gs_c f4 ?_
      refine gs_fi (fun c5_0 => ?_) (fun c5_0 => ?_)
      · exact gs_t (pX101_isOpen_t K1.2) (gX101_isOpen_38 k2 _ _ _ _ ⟨K1.1.1, K1.1.2⟩  )
      · have f6 := (ext_is K1.2 (Nat.zero_lt_succ _) n_a0)
        refine gs_c f6 ?_
        have f8 := (ext_is K1.2 (Nat.zero_lt_succ _) n_a0)
        refine gs_b (gX101_has _ _ _ _ ⟨K1.1.1, K1.1.2⟩ f8 (((h.2 c0_0).2.2 c3_0).2 c5_0).1) (fun K7 => ?_)
        exact gs_z K7.2.2 ⟨K7.1.1, K7.1.2⟩ (ext_tr K1.2 K7.2.1) rfl (fun h => h)
noncomputable def GX101_isOpen (a0 : Nat) (a1 : Int64) (M : FM) : Int32 × FM := (FX101_isOpen fN a0 a1 M).getD (0, M)
def HX101_isOpen (a0 : Nat) (a1 : Int64) (M : FM) : Prop := ∃ r, FX101_isOpen fN a0 a1 M = some r ∧ OkZ M r
theorem gX101_isOpen (a0 : Nat) (a1 : Int64) (M : FM) (h : HX101_isOpen a0 a1 M) : gd (FX101_isOpen fN a0 a1 M) (GX101_isOpen a0 a1 M) (OkZ M) := gd_op h
def kX92_watch (k2 : Nat → Int32 → Int32 → Int32 → FM → Option (FM)) : (Nat × Int32 × Int32 × Int32 × FM) ⊕ (FM) → Option (FM)
  | .inl (v0, v1, v2, v3, M') => k2 v0 v1 v2 v3 M'
  | .inr (r) => some r
def pX92_watch (M : FM) : (Nat × Int32 × Int32 × Int32 × FM) ⊕ (FM) → Prop
  | .inl (_, _, _, _, M') => OkV M M'
  | .inr (r) => OkV M r
theorem pX92_watch_t {M M1 : FM} (e : Ext M M1) : ∀ y, pX92_watch M1 y → pX92_watch M y
  | .inl (_, _, _, _, _), h => ⟨h.1, ext_tr e h.2⟩
  | .inr (r), h => ⟨h.1, ext_tr e h.2⟩
noncomputable def GX92_watch_92 (M : FM) : (Nat × Int32 × Int32 × Int32 × FM) ⊕ (FM) :=
  (.inr M)
theorem gX92_watch_92 (k2 : Nat → Int32 → Int32 → Int32 → FM → Option (FM)) (M : FM) (T : Ty M) : gs (FX92_watch_92 fN k2 M) (GX92_watch_92 M) (kX92_watch k2) (pX92_watch M) := by
  delta FX92_watch_92 BX92_watch_92
  exact And.intro rfl (And.intro (And.intro T.1 T.2) ((ext_r _)))
noncomputable def GX92_watch_83 (a0 : Nat) (a1 : Int32) (a2 : Int32) (a3 : Int32) (s0 : Nat) (s1 : Int64) (M : FM) : (Nat × Int32 × Int32 × Int32 × FM) ⊕ (FM) :=
  let M1 : FM := fm_sL M 316 s0 0 s1
  let x2 : Int32 := a3 + (Int32.ofInt 1)
  (.inl (a0, a1, a2, x2, M1))
theorem gX92_watch_83 (k2 : Nat → Int32 → Int32 → Int32 → FM → Option (FM)) (a0 : Nat) (a1 : Int32) (a2 : Int32) (a3 : Int32) (s0 : Nat) (s1 : Int64) (M : FM) (T : Ty M) (n_s0 : fm_is M 92 92 s0 = true) : gs (FX92_watch_83 fN k2 a0 a1 a2 a3 s0 s1 M) (GX92_watch_83 a0 a1 a2 a3 s0 s1 M) (kX92_watch k2) (pX92_watch M) := by
  delta FX92_watch_83 BX92_watch_83
  refine gs_c n_s0 ?_
  exact And.intro rfl (And.intro (And.intro T.1 T.2) ((ext_dL (ext_r _))))
noncomputable def GX92_watch_79 (a0 : Nat) (a1 : Int32) (a2 : Int32) (a3 : Int32) (s0 : Nat) (M : FM) : (Nat × Int32 × Int32 × Int32 × FM) ⊕ (FM) :=
  GX92_watch_83 a0 a1 a2 a3 s0 (M.2.1 316 a0 0) M
theorem gX92_watch_79 (k2 : Nat → Int32 → Int32 → Int32 → FM → Option (FM)) (a0 : Nat) (a1 : Int32) (a2 : Int32) (a3 : Int32) (s0 : Nat) (M : FM) (T : Ty M) (n_a0 : fm_is M 92 92 a0 = true) (n_s0 : fm_is M 92 92 s0 = true) : gs (FX92_watch_79 fN k2 a0 a1 a2 a3 s0 M) (GX92_watch_79 a0 a1 a2 a3 s0 M) (kX92_watch k2) (pX92_watch M) := by
  delta FX92_watch_79 BX92_watch_79
  refine gs_c n_a0 ?_
  exact gs_t (pX92_watch_t (ext_r _)) (gX92_watch_83 k2 _ _ _ _ _ _ _ ⟨T.1, T.2⟩ n_s0 )
noncomputable def GX92_watch_45 (a0 : Nat) (a1 : Int32) (a2 : Int32) (a3 : Int32) (s0 : Int64) (M : FM) : (Nat × Int32 × Int32 × Int32 × FM) ⊕ (FM) :=
  let r1 : Int32 × FM := GX93_isByte s0 M
  fi (r1.1 = 0) (
    GX92_watch_79 a0 a1 a2 a3 a0 r1.2) (
    let x2 : Nat := (r1.2.2.2 306 a0 0)
    let x3 : Nat := (r1.2.2.2 3 x2 a1.toNatClampNeg)
    let r4 : Int32 × FM := GX101_isOpen x3 s0 r1.2
    fi (r4.1 = 0) (
      GX92_watch_83 a0 a1 a2 a3 a0 ((r4.2.2.1 316 a0 0) + (Int64.ofInt 1)) r4.2) (
      GX92_watch_79 a0 a1 a2 a3 a0 r4.2))
def HX92_watch_45 (a0 : Nat) (a1 : Int32) (a2 : Int32) (a3 : Int32) (s0 : Int64) (M : FM) : Prop := let r1 : Int32 × FM := GX93_isByte s0 M; ((r1.1 = 0 → True) ∧ (¬ (r1.1 = 0) → let x2 : Nat := (r1.2.2.2 306 a0 0); (fm_in r1.2 x2 a1 = true ∧ let x3 : Nat := (r1.2.2.2 3 x2 a1.toNatClampNeg); (fm_is r1.2 101 101 x3 = true ∧ (HX101_isOpen x3 s0 r1.2 ∧ True)))))
theorem gX92_watch_45 (k2 : Nat → Int32 → Int32 → Int32 → FM → Option (FM)) (a0 : Nat) (a1 : Int32) (a2 : Int32) (a3 : Int32) (s0 : Int64) (M : FM) (T : Ty M) (n_a0 : fm_is M 92 92 a0 = true) (h : HX92_watch_45 a0 a1 a2 a3 s0 M) : gs (FX92_watch_45 fN k2 a0 a1 a2 a3 s0 M) (GX92_watch_45 a0 a1 a2 a3 s0 M) (kX92_watch k2) (pX92_watch M) := by
  delta FX92_watch_45 BX92_watch_45
  refine gs_b (gX93_isByte _ _ ⟨T.1, T.2⟩  ) (fun K0 => ?_)
  refine gs_fi (fun c1_0 => ?_) (fun c1_0 => ?_)
  · have f2 := (ext_is K0.2.1 (Nat.zero_lt_succ _) n_a0)
    have f3 := (ext_is K0.2.1 (Nat.zero_lt_succ _) n_a0)
    exact gs_t (pX92_watch_t K0.2.1) (gX92_watch_79 k2 _ _ _ _ _ _ ⟨K0.1.1, K0.1.2⟩ f2 f3 )
  · have f4 := (ext_is K0.2.1 (Nat.zero_lt_succ _) n_a0)
    refine gs_c f4 ?_
    have f11 := (fm_w (lo' := 910) (hi' := 990) rfl rfl (tN_306 K0.1.1 (ext_is K0.2.1 (Nat.zero_lt_succ _) n_a0)))
    refine gs_c ⟨f11, (h.2 c1_0).1⟩ ?_
    refine gs_c (h.2 c1_0).2.1 ?_
    refine gs_b (gX101_isOpen _ _ _ (h.2 c1_0).2.2.1) (fun K5 => ?_)
    refine gs_fi (fun c6_0 => ?_) (fun c6_0 => ?_)
    · have f7 := (ext_is K5.2.1 (Nat.zero_lt_succ _) (ext_is K0.2.1 (Nat.zero_lt_succ _) n_a0))
      refine gs_c f7 ?_
      have f8 := (ext_is K5.2.1 (Nat.zero_lt_succ _) (ext_is K0.2.1 (Nat.zero_lt_succ _) n_a0))
      exact gs_t (pX92_watch_t (ext_tr K0.2.1 K5.2.1)) (gX92_watch_83 k2 _ _ _ _ _ _ _ ⟨K5.1.1, K5.1.2⟩ f8 )
    · have f9 := (ext_is K5.2.1 (Nat.zero_lt_succ _) (ext_is K0.2.1 (Nat.zero_lt_succ _) n_a0))
      have f10 := (ext_is K5.2.1 (Nat.zero_lt_succ _) (ext_is K0.2.1 (Nat.zero_lt_succ _) n_a0))
      exact gs_t (pX92_watch_t (ext_tr K0.2.1 K5.2.1)) (gX92_watch_79 k2 _ _ _ _ _ _ ⟨K5.1.1, K5.1.2⟩ f9 f10 )
noncomputable def GX92_watch_0 (a0 : Nat) (a1 : Int32) (a2 : Int32) (M : FM) : (Nat × Int32 × Int32 × Int32 × FM) ⊕ (FM) :=
  (.inl (a0, a1, a2, (Int32.ofInt 0), M))
theorem gX92_watch_0 (k2 : Nat → Int32 → Int32 → Int32 → FM → Option (FM)) (a0 : Nat) (a1 : Int32) (a2 : Int32) (M : FM) (T : Ty M) : gs (FX92_watch_0 fN k2 a0 a1 a2 M) (GX92_watch_0 a0 a1 a2 M) (kX92_watch k2) (pX92_watch M) := by
  delta FX92_watch_0 BX92_watch_0
  exact And.intro rfl (And.intro (And.intro T.1 T.2) ((ext_r _)))
noncomputable def GX92_watch_2 (a0 : Nat) (a1 : Int32) (a2 : Int32) (a3 : Int32) (M : FM) : (Nat × Int32 × Int32 × Int32 × FM) ⊕ (FM) :=
  fi (a2 ≤ a3) (
    GX92_watch_92 M) (
    let x1 : Nat := (M.2.2 305 a0 0)
    let x2 : Nat := (M.2.2 3 x1 a1.toNatClampNeg)
    let r3 : Int32 × FM := GX100_dataMode x2 M
    fi ((Int32.ofInt 3) ≤ r3.1) (
      GX92_watch_92 r3.2) (
      fi ((r3.2.1 322 a0 0) = 0) (
        let x4 : Nat := (r3.2.2.2 323 a0 0)
        GX92_watch_45 a0 a1 a2 a3 (r3.2.2.1 3 x4 a3.toNatClampNeg) r3.2) (
        let x5 : Nat := (r3.2.2.2 323 a0 0)
        GX92_watch_45 a0 a1 a2 a3 ((r3.2.2.1 3 x5 (Int32.ofInt 0).toNatClampNeg) + a3.toInt64) r3.2)))
def HX92_watch_2 (a0 : Nat) (a1 : Int32) (a2 : Int32) (a3 : Int32) (M : FM) : Prop := ((a2 ≤ a3 → True) ∧ (¬ (a2 ≤ a3) → let x1 : Nat := (M.2.2 305 a0 0); (fm_in M x1 a1 = true ∧ let x2 : Nat := (M.2.2 3 x1 a1.toNatClampNeg); (fm_is M 95 95 x2 = true ∧ let r3 : Int32 × FM := GX100_dataMode x2 M; (((Int32.ofInt 3) ≤ r3.1 → True) ∧ (¬ ((Int32.ofInt 3) ≤ r3.1) → (((r3.2.1 322 a0 0) = 0 → let x4 : Nat := (r3.2.2.2 323 a0 0); (fm_in r3.2 x4 a3 = true ∧ HX92_watch_45 a0 a1 a2 a3 (r3.2.2.1 3 x4 a3.toNatClampNeg) r3.2)) ∧ (¬ ((r3.2.1 322 a0 0) = 0) → let x5 : Nat := (r3.2.2.2 323 a0 0); HX92_watch_45 a0 a1 a2 a3 ((r3.2.2.1 3 x5 (Int32.ofInt 0).toNatClampNeg) + a3.toInt64) r3.2))))))))
theorem gX92_watch_2 (k2 : Nat → Int32 → Int32 → Int32 → FM → Option (FM)) (a0 : Nat) (a1 : Int32) (a2 : Int32) (a3 : Int32) (M : FM) (T : Ty M) (n_a0 : fm_is M 92 92 a0 = true) (h : HX92_watch_2 a0 a1 a2 a3 M) : gs (FX92_watch_2 fN k2 a0 a1 a2 a3 M) (GX92_watch_2 a0 a1 a2 a3 M) (kX92_watch k2) (pX92_watch M) := by
  delta FX92_watch_2 BX92_watch_2
  refine gs_fi (fun c0_0 => ?_) (fun c0_0 => ?_)
  · exact gs_t (pX92_watch_t (ext_r _)) (gX92_watch_92 k2  _ ⟨T.1, T.2⟩  )
  · refine gs_c n_a0 ?_
    have f13 := (fm_w (lo' := 910) (hi' := 990) rfl rfl (tN_305 T.1 n_a0))
    refine gs_c ⟨f13, (h.2 c0_0).1⟩ ?_
    refine gs_c (h.2 c0_0).2.1 ?_
    refine gs_b (gX100_dataMode _ _ ⟨T.1, T.2⟩ (h.2 c0_0).2.1 ) (fun K1 => ?_)
    refine gs_fi (fun c2_0 => ?_) (fun c2_0 => ?_)
    · exact gs_t (pX92_watch_t K1.2) (gX92_watch_92 k2  _ ⟨K1.1.1, K1.1.2⟩  )
    · have f3 := (ext_is K1.2 (Nat.zero_lt_succ _) n_a0)
      refine gs_c f3 ?_
      refine gs_fi (fun c4_0 => ?_) (fun c4_0 => ?_)
      · have f5 := (ext_is K1.2 (Nat.zero_lt_succ _) n_a0)
        refine gs_c f5 ?_
        have f7 := (tN_323 K1.1.1 (ext_is K1.2 (Nat.zero_lt_succ _) n_a0))
        have f8 := (((h.2 c0_0).2.2.2 c2_0).1 c4_0).1
        refine gs_c ⟨f7, f8⟩ ?_
        have f6 := (ext_is K1.2 (Nat.zero_lt_succ _) n_a0)
        exact gs_t (pX92_watch_t K1.2) (gX92_watch_45 k2 _ _ _ _ _ _ ⟨K1.1.1, K1.1.2⟩ f6 (((h.2 c0_0).2.2.2 c2_0).1 c4_0).2)
      · have f9 := (ext_is K1.2 (Nat.zero_lt_succ _) n_a0)
        refine gs_c f9 ?_
        have f11 := (tN_323 K1.1.1 (ext_is K1.2 (Nat.zero_lt_succ _) n_a0))
        have f12 := (fm_inl (i := (Int32.ofInt 0)) (tL_323 K1.1.1 (ext_is K1.2 (Nat.zero_lt_succ _) n_a0)) (by decide))
        refine gs_c ⟨f11, f12⟩ ?_
        have f10 := (ext_is K1.2 (Nat.zero_lt_succ _) n_a0)
        exact gs_t (pX92_watch_t K1.2) (gX92_watch_45 k2 _ _ _ _ _ _ ⟨K1.1.1, K1.1.2⟩ f10 (((h.2 c0_0).2.2.2 c2_0).2 c4_0))
noncomputable def GX92_watch (a0 : Nat) (a1 : Int32) (a2 : Int32) (M : FM) : FM := (FX92_watch fN a0 a1 a2 M).getD M
def HX92_watch (a0 : Nat) (a1 : Int32) (a2 : Int32) (M : FM) : Prop := ∃ r, FX92_watch fN a0 a1 a2 M = some r ∧ OkV M r
theorem gX92_watch (a0 : Nat) (a1 : Int32) (a2 : Int32) (M : FM) (h : HX92_watch a0 a1 a2 M) : gd (FX92_watch fN a0 a1 a2 M) (GX92_watch a0 a1 a2 M) (OkV M) := gd_op h
noncomputable def GX92_isDiskRegister_28 (s0 : Int32) (M : FM) : Int32 × FM :=
  (s0, M)
theorem gX92_isDiskRegister_28 (s0 : Int32) (M : FM) (T : Ty M) (z_s0 : s0 = 0 ∨ s0 = 1) : gd (FX92_isDiskRegister_28 s0 M) (GX92_isDiskRegister_28 s0 M) (OkZ M) := by
  delta FX92_isDiskRegister_28 BX92_isDiskRegister_28
  exact gd_z z_s0 ⟨T.1, T.2⟩ (ext_r _) rfl
noncomputable def GX92_isDiskRegister_27 (M : FM) : Int32 × FM :=
  GX92_isDiskRegister_28 (Int32.ofInt 0) M
theorem gX92_isDiskRegister_27 (M : FM) (T : Ty M) : gd (FX92_isDiskRegister_27 M) (GX92_isDiskRegister_27 M) (OkZ M) := by
  delta FX92_isDiskRegister_27 BX92_isDiskRegister_27
  exact gd_tZ (ext_r _) (gX92_isDiskRegister_28 _ _ ⟨T.1, T.2⟩ fz_0 )
noncomputable def GX92_isDiskRegister_0 (a0 : Int64) (a2 : Int32) (M : FM) : Int32 × FM :=
  fi (a2 = (Int32.ofInt 4)) (
    fi ((lg_cmp (a0 - a0 / (Int64.ofInt 4) * (Int64.ofInt 4)) (Int64.ofInt 0)) = 0) (
      fi (0 < (lg_cmp a0 (Int64.ofInt 508))) (
        GX92_isDiskRegister_27 M) (
        GX92_isDiskRegister_28 (Int32.ofInt 1) M)) (
      GX92_isDiskRegister_27 M)) (
    GX92_isDiskRegister_27 M)
theorem gX92_isDiskRegister_0 (a0 : Int64) (a2 : Int32) (M : FM) (T : Ty M) : gd (FX92_isDiskRegister_0 a0 a2 M) (GX92_isDiskRegister_0 a0 a2 M) (OkZ M) := by
  delta FX92_isDiskRegister_0 BX92_isDiskRegister_0
  refine gd_fi (fun c0_0 => ?_) (fun c0_0 => ?_)
  · refine gd_n (by decide) ?_
    refine gd_fi (fun c1_0 => ?_) (fun c1_0 => ?_)
    · refine gd_fi (fun c2_0 => ?_) (fun c2_0 => ?_)
      · exact gd_tZ (ext_r _) (gX92_isDiskRegister_27  _ ⟨T.1, T.2⟩  )
      · exact gd_tZ (ext_r _) (gX92_isDiskRegister_28 _ _ ⟨T.1, T.2⟩ fz_1 )
    · exact gd_tZ (ext_r _) (gX92_isDiskRegister_27  _ ⟨T.1, T.2⟩  )
  · exact gd_tZ (ext_r _) (gX92_isDiskRegister_27  _ ⟨T.1, T.2⟩  )
noncomputable def GX92_isDiskRegister (a0 : Int64) (a2 : Int32) (M : FM) : Int32 × FM := GX92_isDiskRegister_0 a0 a2 M
theorem gX92_isDiskRegister (a0 : Int64) (a2 : Int32) (M : FM) (T : Ty M) : gd (FX92_isDiskRegister a0 a2 M) (GX92_isDiskRegister a0 a2 M) (OkZ M) := gX92_isDiskRegister_0 a0 a2 M T 
noncomputable def GX96_isProper_41 (s0 : Int32) (M : FM) : Int32 × FM :=
  (s0, M)
theorem gX96_isProper_41 (s0 : Int32) (M : FM) (T : Ty M) (z_s0 : s0 = 0 ∨ s0 = 1) : gd (FX96_isProper_41 s0 M) (GX96_isProper_41 s0 M) (OkZ M) := by
  delta FX96_isProper_41 BX96_isProper_41
  exact gd_z z_s0 ⟨T.1, T.2⟩ (ext_r _) rfl
noncomputable def GX96_isProper_40 (M : FM) : Int32 × FM :=
  GX96_isProper_41 (Int32.ofInt 0) M
theorem gX96_isProper_40 (M : FM) (T : Ty M) : gd (FX96_isProper_40 M) (GX96_isProper_40 M) (OkZ M) := by
  delta FX96_isProper_40 BX96_isProper_40
  exact gd_tZ (ext_r _) (gX96_isProper_41 _ _ ⟨T.1, T.2⟩ fz_0 )
noncomputable def GX96_isProper_36 (M : FM) : Int32 × FM :=
  GX96_isProper_41 (Int32.ofInt 1) M
theorem gX96_isProper_36 (M : FM) (T : Ty M) : gd (FX96_isProper_36 M) (GX96_isProper_36 M) (OkZ M) := by
  delta FX96_isProper_36 BX96_isProper_36
  exact gd_tZ (ext_r _) (gX96_isProper_41 _ _ ⟨T.1, T.2⟩ fz_1 )
noncomputable def GX96_isProper_0 (a0 : Int32) (a1 : Int64) (a3 : Int32) (M : FM) : Int32 × FM :=
  fi (a0 < 0) (
    GX96_isProper_40 M) (
    fi ((Int32.ofInt 2) < a0) (
      GX96_isProper_40 M) (
      fi ((lg_cmp a1 (Int64.ofInt 0)) < 0) (
        GX96_isProper_40 M) (
        fi (a3 = (Int32.ofInt 1)) (
          GX96_isProper_36 M) (
          fi (a3 = (Int32.ofInt 2)) (
            GX96_isProper_36 M) (
            fi (a3 = (Int32.ofInt 4)) (
              GX96_isProper_36 M) (
              fi (a3 = (Int32.ofInt 8)) (
                GX96_isProper_36 M) (
                GX96_isProper_40 M)))))))
theorem gX96_isProper_0 (a0 : Int32) (a1 : Int64) (a3 : Int32) (M : FM) (T : Ty M) : gd (FX96_isProper_0 a0 a1 a3 M) (GX96_isProper_0 a0 a1 a3 M) (OkZ M) := by
  delta FX96_isProper_0 BX96_isProper_0
  refine gd_fi (fun c0_0 => ?_) (fun c0_0 => ?_)
  · exact gd_tZ (ext_r _) (gX96_isProper_40  _ ⟨T.1, T.2⟩  )
  · refine gd_fi (fun c1_0 => ?_) (fun c1_0 => ?_)
    · exact gd_tZ (ext_r _) (gX96_isProper_40  _ ⟨T.1, T.2⟩  )
    · refine gd_fi (fun c2_0 => ?_) (fun c2_0 => ?_)
      · exact gd_tZ (ext_r _) (gX96_isProper_40  _ ⟨T.1, T.2⟩  )
      · refine gd_fi (fun c3_0 => ?_) (fun c3_0 => ?_)
        · exact gd_tZ (ext_r _) (gX96_isProper_36  _ ⟨T.1, T.2⟩  )
        · refine gd_fi (fun c4_0 => ?_) (fun c4_0 => ?_)
          · exact gd_tZ (ext_r _) (gX96_isProper_36  _ ⟨T.1, T.2⟩  )
          · refine gd_fi (fun c5_0 => ?_) (fun c5_0 => ?_)
            · exact gd_tZ (ext_r _) (gX96_isProper_36  _ ⟨T.1, T.2⟩  )
            · refine gd_fi (fun c6_0 => ?_) (fun c6_0 => ?_)
              · exact gd_tZ (ext_r _) (gX96_isProper_36  _ ⟨T.1, T.2⟩  )
              · exact gd_tZ (ext_r _) (gX96_isProper_40  _ ⟨T.1, T.2⟩  )
noncomputable def GX96_isProper (a0 : Int32) (a1 : Int64) (a3 : Int32) (M : FM) : Int32 × FM := GX96_isProper_0 a0 a1 a3 M
theorem gX96_isProper (a0 : Int32) (a1 : Int64) (a3 : Int32) (M : FM) (T : Ty M) : gd (FX96_isProper a0 a1 a3 M) (GX96_isProper a0 a1 a3 M) (OkZ M) := gX96_isProper_0 a0 a1 a3 M T 
noncomputable def GX96_eightAt_61 (s0 : Int32) (M : FM) : Int32 × FM :=
  (s0, M)
theorem gX96_eightAt_61 (s0 : Int32) (M : FM) (T : Ty M) : gd (FX96_eightAt_61 s0 M) (GX96_eightAt_61 s0 M) (OkR M) := by
  delta FX96_eightAt_61 BX96_eightAt_61
  exact ⟨rfl, ⟨T.1, T.2⟩, (ext_r _)⟩
noncomputable def GX96_eightAt_60 (M : FM) : Int32 × FM :=
  GX96_eightAt_61 (Int32.ofInt (-1)) M
theorem gX96_eightAt_60 (M : FM) (T : Ty M) : gd (FX96_eightAt_60 M) (GX96_eightAt_60 M) (OkR M) := by
  delta FX96_eightAt_60 BX96_eightAt_60
  exact gd_tR (ext_r _) (gX96_eightAt_61 _ _ ⟨T.1, T.2⟩  )
noncomputable def GX96_eightAt_21 (a0 : Nat) (a1 : Int64) (M : FM) : Int32 × FM :=
  fi ((lg_cmp a1 (Int64.ofInt 16384)) < 0) (
    GX96_eightAt_60 M) (
    fi (0 ≤ (lg_cmp a1 ((Int64.ofInt 16384) + ((Int64.ofInt 8) * (M.1 395 a0 0).toInt64)))) (
      GX96_eightAt_60 M) (
      GX96_eightAt_61 (((a1 - (Int64.ofInt 16384)) / (Int64.ofInt 8)).toInt32) M))
theorem gX96_eightAt_21 (a0 : Nat) (a1 : Int64) (M : FM) (T : Ty M) (n_a0 : fm_is M 99 99 a0 = true) : gd (FX96_eightAt_21 a0 a1 M) (GX96_eightAt_21 a0 a1 M) (OkR M) := by
  delta FX96_eightAt_21 BX96_eightAt_21
  refine gd_fi (fun c0_0 => ?_) (fun c0_0 => ?_)
  · exact gd_tR (ext_r _) (gX96_eightAt_60  _ ⟨T.1, T.2⟩  )
  · refine gd_c n_a0 ?_
    refine gd_fi (fun c1_0 => ?_) (fun c1_0 => ?_)
    · exact gd_tR (ext_r _) (gX96_eightAt_60  _ ⟨T.1, T.2⟩  )
    · refine gd_n (by decide) ?_
      exact gd_tR (ext_r _) (gX96_eightAt_61 _ _ ⟨T.1, T.2⟩  )
noncomputable def GX96_eightAt_0 (a0 : Nat) (a1 : Int64) (M : FM) : Int32 × FM :=
  fi ((lg_cmp a1 (Int64.ofInt 49144)) < 0) (
    GX96_eightAt_21 a0 a1 M) (
    fi (0 ≤ (lg_cmp a1 (Int64.ofInt 49152))) (
      GX96_eightAt_21 a0 a1 M) (
      ((M.1 395 a0 0), M)))
theorem gX96_eightAt_0 (a0 : Nat) (a1 : Int64) (M : FM) (T : Ty M) (n_a0 : fm_is M 99 99 a0 = true) : gd (FX96_eightAt_0 a0 a1 M) (GX96_eightAt_0 a0 a1 M) (OkR M) := by
  delta FX96_eightAt_0 BX96_eightAt_0
  refine gd_fi (fun c0_0 => ?_) (fun c0_0 => ?_)
  · exact gd_tR (ext_r _) (gX96_eightAt_21 _ _ _ ⟨T.1, T.2⟩ n_a0 )
  · refine gd_fi (fun c1_0 => ?_) (fun c1_0 => ?_)
    · exact gd_tR (ext_r _) (gX96_eightAt_21 _ _ _ ⟨T.1, T.2⟩ n_a0 )
    · refine gd_c n_a0 ?_
      exact ⟨rfl, ⟨T.1, T.2⟩, (ext_r _)⟩
noncomputable def GX96_eightAt (a0 : Nat) (a1 : Int64) (M : FM) : Int32 × FM := GX96_eightAt_0 a0 a1 M
theorem gX96_eightAt (a0 : Nat) (a1 : Int64) (M : FM) (T : Ty M) (n_a0 : fm_is M 99 99 a0 = true) : gd (FX96_eightAt a0 a1 M) (GX96_eightAt a0 a1 M) (OkR M) := gX96_eightAt_0 a0 a1 M T n_a0 
noncomputable def GX96_eight_21 (s0 : Int64) (M : FM) : Int64 × FM :=
  (s0, M)
theorem gX96_eight_21 (s0 : Int64) (M : FM) (T : Ty M) : gd (FX96_eight_21 s0 M) (GX96_eight_21 s0 M) (OkR M) := by
  delta FX96_eight_21 BX96_eight_21
  exact ⟨rfl, ⟨T.1, T.2⟩, (ext_r _)⟩
noncomputable def GX96_eight_0 (a0 : Nat) (a1 : Int32) (M : FM) : Int64 × FM :=
  fi (a1 = (M.1 395 a0 0)) (
    GX96_eight_21 (M.2.1 398 a0 0) M) (
    let x1 : Nat := (M.2.2 397 a0 0)
    GX96_eight_21 (M.2.1 3 x1 a1.toNatClampNeg) M)
def HX96_eight_0 (a0 : Nat) (a1 : Int32) (M : FM) : Prop := ((a1 = (M.1 395 a0 0) → True) ∧ (¬ (a1 = (M.1 395 a0 0)) → let x1 : Nat := (M.2.2 397 a0 0); (fm_in M x1 a1 = true ∧ True)))
theorem gX96_eight_0 (a0 : Nat) (a1 : Int32) (M : FM) (T : Ty M) (n_a0 : fm_is M 99 99 a0 = true) (h : HX96_eight_0 a0 a1 M) : gd (FX96_eight_0 a0 a1 M) (GX96_eight_0 a0 a1 M) (OkR M) := by
  delta FX96_eight_0 BX96_eight_0
  refine gd_c n_a0 ?_
  refine gd_fi (fun c0_0 => ?_) (fun c0_0 => ?_)
  · refine gd_c n_a0 ?_
    exact gd_tR (ext_r _) (gX96_eight_21 _ _ ⟨T.1, T.2⟩  )
  · refine gd_c n_a0 ?_
    have f1 := (tN_397 T.1 n_a0)
    refine gd_c ⟨f1, (h.2 c0_0).1⟩ ?_
    exact gd_tR (ext_r _) (gX96_eight_21 _ _ ⟨T.1, T.2⟩  )
noncomputable def GX96_eight (a0 : Nat) (a1 : Int32) (M : FM) : Int64 × FM := GX96_eight_0 a0 a1 M
def HX96_eight (a0 : Nat) (a1 : Int32) (M : FM) : Prop := HX96_eight_0 a0 a1 M
theorem gX96_eight (a0 : Nat) (a1 : Int32) (M : FM) (T : Ty M) (n_a0 : fm_is M 99 99 a0 = true) (h : HX96_eight a0 a1 M) : gd (FX96_eight a0 a1 M) (GX96_eight a0 a1 M) (OkR M) := gX96_eight_0 a0 a1 M T n_a0 h
noncomputable def GX96_setEight_23 (M : FM) : FM :=
  M
theorem gX96_setEight_23 (M : FM) (T : Ty M) : gd (FX96_setEight_23 M) (GX96_setEight_23 M) (OkV M) := by
  delta FX96_setEight_23 BX96_setEight_23
  exact ⟨rfl, ⟨T.1, T.2⟩, (ext_r _)⟩
noncomputable def GX96_setEight_0 (a0 : Nat) (a1 : Int32) (a2 : Int64) (M : FM) : FM :=
  fi (a1 = (M.1 395 a0 0)) (
    let M1 : FM := fm_sL M 398 a0 0 a2
    GX96_setEight_23 M1) (
    let x2 : Nat := (M.2.2 397 a0 0)
    let M3 : FM := fm_sL M 3 x2 a1.toNatClampNeg a2
    GX96_setEight_23 M3)
def HX96_setEight_0 (a0 : Nat) (a1 : Int32) (a2 : Int64) (M : FM) : Prop := ((a1 = (M.1 395 a0 0) → True) ∧ (¬ (a1 = (M.1 395 a0 0)) → let x2 : Nat := (M.2.2 397 a0 0); (fm_in M x2 a1 = true ∧ True)))
theorem gX96_setEight_0 (a0 : Nat) (a1 : Int32) (a2 : Int64) (M : FM) (T : Ty M) (n_a0 : fm_is M 99 99 a0 = true) (h : HX96_setEight_0 a0 a1 a2 M) : gd (FX96_setEight_0 a0 a1 a2 M) (GX96_setEight_0 a0 a1 a2 M) (OkV M) := by
  delta FX96_setEight_0 BX96_setEight_0
  refine gd_c n_a0 ?_
  refine gd_fi (fun c0_0 => ?_) (fun c0_0 => ?_)
  · refine gd_c n_a0 ?_
    exact gd_tV (ext_dL (ext_r _)) (gX96_setEight_23  _ ⟨T.1, T.2⟩  )
  · refine gd_c n_a0 ?_
    have f1 := (tN_397 T.1 n_a0)
    refine gd_c ⟨f1, (h.2 c0_0).1⟩ ?_
    exact gd_tV (ext_dL (ext_r _)) (gX96_setEight_23  _ ⟨T.1, T.2⟩  )
noncomputable def GX96_setEight (a0 : Nat) (a1 : Int32) (a2 : Int64) (M : FM) : FM := GX96_setEight_0 a0 a1 a2 M
def HX96_setEight (a0 : Nat) (a1 : Int32) (a2 : Int64) (M : FM) : Prop := HX96_setEight_0 a0 a1 a2 M
theorem gX96_setEight (a0 : Nat) (a1 : Int32) (a2 : Int64) (M : FM) (T : Ty M) (n_a0 : fm_is M 99 99 a0 = true) (h : HX96_setEight a0 a1 a2 M) : gd (FX96_setEight a0 a1 a2 M) (GX96_setEight a0 a1 a2 M) (OkV M) := gX96_setEight_0 a0 a1 a2 M T n_a0 h
noncomputable def GX96_writeTimer_163 (M : FM) : FM :=
  M
theorem gX96_writeTimer_163 (M : FM) (T : Ty M) : gd (FX96_writeTimer_163 M) (GX96_writeTimer_163 M) (OkV M) := by
  delta FX96_writeTimer_163 BX96_writeTimer_163
  exact ⟨rfl, ⟨T.1, T.2⟩, (ext_r _)⟩
noncomputable def GX96_writeTimer_80 (M : FM) : FM :=
  M
theorem gX96_writeTimer_80 (M : FM) (T : Ty M) : gd (FX96_writeTimer_80 M) (GX96_writeTimer_80 M) (OkV M) := by
  delta FX96_writeTimer_80 BX96_writeTimer_80
  exact ⟨rfl, ⟨T.1, T.2⟩, (ext_r _)⟩
noncomputable def GX96_writeTimer_54 (a0 : Nat) (a1 : Int64) (a3 : Int32) (a4 : Int64) (M : FM) : FM :=
  let r1 : Int32 × FM := GX96_eightAt a0 a1 M
  fi (r1.1 < 0) (
    GX96_writeTimer_80 r1.2) (
    let x2 : Int64 := a3.toInt64
    fi ((lg_cmp (a1 - a1 / x2 * x2) (Int64.ofInt 0)) = 0) (
      fi ((Int32.ofInt 4) ≤ a3) (
        let r3 : Int64 × FM := GX96_eight a0 r1.1 r1.2
        let x4 : Int64 := (r3.1 &&& (Int64.ofInt 4294967295))
        let r5 : Int64 × FM := GX96_eight a0 r1.1 r3.2
        let x6 : Int64 := (r5.1 - x4)
        fi (a3 = (Int32.ofInt 8)) (
          let M7 : FM := GX96_setEight a0 r1.1 a4 r5.2
          GX96_writeTimer_163 M7) (
          fi ((lg_cmp (a1 - a1 / (Int64.ofInt 8) * (Int64.ofInt 8)) (Int64.ofInt 0)) = 0) (
            let M8 : FM := GX96_setEight a0 r1.1 (x6 + (a4 &&& (Int64.ofInt 4294967295))) r5.2
            GX96_writeTimer_163 M8) (
            let M9 : FM := GX96_setEight a0 r1.1 (x4 + (a4 <<< ((Int32.ofInt 32).toInt64 &&& 63))) r5.2
            GX96_writeTimer_163 M9))) (
        GX96_writeTimer_80 r1.2)) (
      GX96_writeTimer_80 r1.2))
def HX96_writeTimer_54 (a0 : Nat) (a1 : Int64) (a3 : Int32) (a4 : Int64) (M : FM) : Prop := let r1 : Int32 × FM := GX96_eightAt a0 a1 M; ((r1.1 < 0 → True) ∧ (¬ (r1.1 < 0) → let x2 : Int64 := a3.toInt64; (¬ x2 = 0 ∧ (((lg_cmp (a1 - a1 / x2 * x2) (Int64.ofInt 0)) = 0 → (((Int32.ofInt 4) ≤ a3 → (HX96_eight a0 r1.1 r1.2 ∧ let r3 : Int64 × FM := GX96_eight a0 r1.1 r1.2; let x4 : Int64 := (r3.1 &&& (Int64.ofInt 4294967295)); (HX96_eight a0 r1.1 r3.2 ∧ let r5 : Int64 × FM := GX96_eight a0 r1.1 r3.2; let x6 : Int64 := (r5.1 - x4); ((a3 = (Int32.ofInt 8) → (HX96_setEight a0 r1.1 a4 r5.2 ∧ True)) ∧ (¬ (a3 = (Int32.ofInt 8)) → (((lg_cmp (a1 - a1 / (Int64.ofInt 8) * (Int64.ofInt 8)) (Int64.ofInt 0)) = 0 → (HX96_setEight a0 r1.1 (x6 + (a4 &&& (Int64.ofInt 4294967295))) r5.2 ∧ True)) ∧ (¬ ((lg_cmp (a1 - a1 / (Int64.ofInt 8) * (Int64.ofInt 8)) (Int64.ofInt 0)) = 0) → (HX96_setEight a0 r1.1 (x4 + (a4 <<< ((Int32.ofInt 32).toInt64 &&& 63))) r5.2 ∧ True)))))))) ∧ (¬ ((Int32.ofInt 4) ≤ a3) → True))) ∧ (¬ ((lg_cmp (a1 - a1 / x2 * x2) (Int64.ofInt 0)) = 0) → True)))))
theorem gX96_writeTimer_54 (a0 : Nat) (a1 : Int64) (a3 : Int32) (a4 : Int64) (M : FM) (T : Ty M) (n_a0 : fm_is M 99 99 a0 = true) (h : HX96_writeTimer_54 a0 a1 a3 a4 M) : gd (FX96_writeTimer_54 a0 a1 a3 a4 M) (GX96_writeTimer_54 a0 a1 a3 a4 M) (OkV M) := by
  delta FX96_writeTimer_54 BX96_writeTimer_54
  refine gd_c n_a0 ?_
  refine gd_b (gX96_eightAt _ _ _ ⟨T.1, T.2⟩ n_a0 ) (fun K0 => ?_)
  refine gd_fi (fun c1_0 => ?_) (fun c1_0 => ?_)
  · exact gd_tV K0.2 (gX96_writeTimer_80  _ ⟨K0.1.1, K0.1.2⟩  )
  · refine gd_n (h.2 c1_0).1 ?_
    refine gd_fi (fun c2_0 => ?_) (fun c2_0 => ?_)
    · refine gd_fi (fun c3_0 => ?_) (fun c3_0 => ?_)
      · have f4 := (ext_is K0.2 (Nat.zero_lt_succ _) n_a0)
        refine gd_c f4 ?_
        have f20 := (ext_is K0.2 (Nat.zero_lt_succ _) n_a0)
        refine gd_b (gX96_eight _ _ _ ⟨K0.1.1, K0.1.2⟩ f20 (((h.2 c1_0).2.1 c2_0).1 c3_0).1) (fun K5 => ?_)
        have f6 := (ext_is K5.2 (Nat.zero_lt_succ _) (ext_is K0.2 (Nat.zero_lt_succ _) n_a0))
        refine gd_c f6 ?_
        have f19 := (ext_is K5.2 (Nat.zero_lt_succ _) (ext_is K0.2 (Nat.zero_lt_succ _) n_a0))
        refine gd_b (gX96_eight _ _ _ ⟨K5.1.1, K5.1.2⟩ f19 (((h.2 c1_0).2.1 c2_0).1 c3_0).2.1) (fun K7 => ?_)
        refine gd_fi (fun c8_0 => ?_) (fun c8_0 => ?_)
        · have f9 := (ext_is K7.2 (Nat.zero_lt_succ _) (ext_is K5.2 (Nat.zero_lt_succ _) (ext_is K0.2 (Nat.zero_lt_succ _) n_a0)))
          refine gd_c f9 ?_
          have f11 := (ext_is K7.2 (Nat.zero_lt_succ _) (ext_is K5.2 (Nat.zero_lt_succ _) (ext_is K0.2 (Nat.zero_lt_succ _) n_a0)))
          refine gd_b (gX96_setEight _ _ _ _ ⟨K7.1.1, K7.1.2⟩ f11 ((((h.2 c1_0).2.1 c2_0).1 c3_0).2.2.1 c8_0).1) (fun K10 => ?_)
          exact gd_tV (ext_tr K0.2 (ext_tr K5.2 (ext_tr K7.2 K10.2))) (gX96_writeTimer_163  _ ⟨K10.1.1, K10.1.2⟩  )
        · refine gd_n (by decide) ?_
          refine gd_fi (fun c12_0 => ?_) (fun c12_0 => ?_)
          · have f13 := (ext_is K7.2 (Nat.zero_lt_succ _) (ext_is K5.2 (Nat.zero_lt_succ _) (ext_is K0.2 (Nat.zero_lt_succ _) n_a0)))
            refine gd_c f13 ?_
            have f15 := (ext_is K7.2 (Nat.zero_lt_succ _) (ext_is K5.2 (Nat.zero_lt_succ _) (ext_is K0.2 (Nat.zero_lt_succ _) n_a0)))
            refine gd_b (gX96_setEight _ _ _ _ ⟨K7.1.1, K7.1.2⟩ f15 (((((h.2 c1_0).2.1 c2_0).1 c3_0).2.2.2 c8_0).1 c12_0).1) (fun K14 => ?_)
            exact gd_tV (ext_tr K0.2 (ext_tr K5.2 (ext_tr K7.2 K14.2))) (gX96_writeTimer_163  _ ⟨K14.1.1, K14.1.2⟩  )
          · have f16 := (ext_is K7.2 (Nat.zero_lt_succ _) (ext_is K5.2 (Nat.zero_lt_succ _) (ext_is K0.2 (Nat.zero_lt_succ _) n_a0)))
            refine gd_c f16 ?_
            have f18 := (ext_is K7.2 (Nat.zero_lt_succ _) (ext_is K5.2 (Nat.zero_lt_succ _) (ext_is K0.2 (Nat.zero_lt_succ _) n_a0)))
            refine gd_b (gX96_setEight _ _ _ _ ⟨K7.1.1, K7.1.2⟩ f18 (((((h.2 c1_0).2.1 c2_0).1 c3_0).2.2.2 c8_0).2 c12_0).1) (fun K17 => ?_)
            exact gd_tV (ext_tr K0.2 (ext_tr K5.2 (ext_tr K7.2 K17.2))) (gX96_writeTimer_163  _ ⟨K17.1.1, K17.1.2⟩  )
      · exact gd_tV K0.2 (gX96_writeTimer_80  _ ⟨K0.1.1, K0.1.2⟩  )
    · exact gd_tV K0.2 (gX96_writeTimer_80  _ ⟨K0.1.1, K0.1.2⟩  )
noncomputable def GX96_writeTimer_53 (a0 : Nat) (a1 : Int64) (a3 : Int32) (a4 : Int64) (s0 : Nat) (s1 : Int32) (s2 : Int32) (M : FM) : FM :=
  let M1 : FM := fm_sI M 3 s0 s1.toNatClampNeg (s2 &&& 1)
  GX96_writeTimer_54 a0 a1 a3 a4 M1
def HX96_writeTimer_53 (a0 : Nat) (a1 : Int64) (a3 : Int32) (a4 : Int64) (s0 : Nat) (s1 : Int32) (s2 : Int32) (M : FM) : Prop := (fm_in M s0 s1 = true ∧ let M1 : FM := fm_sI M 3 s0 s1.toNatClampNeg (s2 &&& 1); HX96_writeTimer_54 a0 a1 a3 a4 M1)
theorem gX96_writeTimer_53 (a0 : Nat) (a1 : Int64) (a3 : Int32) (a4 : Int64) (s0 : Nat) (s1 : Int32) (s2 : Int32) (M : FM) (T : Ty M) (n_s0 : fm_is M 904 904 s0 = true) (n_a0 : fm_is M 99 99 a0 = true) (h : HX96_writeTimer_53 a0 a1 a3 a4 s0 s1 s2 M) : gd (FX96_writeTimer_53 a0 a1 a3 a4 s0 s1 s2 M) (GX96_writeTimer_53 a0 a1 a3 a4 s0 s1 s2 M) (OkV M) := by
  delta FX96_writeTimer_53 BX96_writeTimer_53
  refine gd_c ⟨n_s0, h.1⟩ ?_
  exact gd_tV (ext_dI (ext_r _)) (gX96_writeTimer_54 _ _ _ _ _ ⟨T.1, (tyb_s4 T.2)⟩ n_a0 h.2)
noncomputable def GX96_writeTimer_0 (a0 : Nat) (a1 : Int64) (a3 : Int32) (a4 : Int64) (M : FM) : FM :=
  fi (a3 = (Int32.ofInt 4)) (
    fi (0 ≤ (lg_cmp a1 ((Int64.ofInt 4) * (M.1 395 a0 0).toInt64))) (
      GX96_writeTimer_54 a0 a1 a3 a4 M) (
      fi ((lg_cmp (a1 - a1 / (Int64.ofInt 4) * (Int64.ofInt 4)) (Int64.ofInt 0)) = 0) (
        fi ((lg_cmp (a4 &&& (Int64.ofInt 1)) (Int64.ofInt 1)) = 0) (
          GX96_writeTimer_53 a0 a1 a3 a4 (M.2.2 396 a0 0) ((a1 / (Int64.ofInt 4)).toInt32) (Int32.ofInt 1) M) (
          GX96_writeTimer_53 a0 a1 a3 a4 (M.2.2 396 a0 0) ((a1 / (Int64.ofInt 4)).toInt32) (Int32.ofInt 0) M)) (
        GX96_writeTimer_54 a0 a1 a3 a4 M))) (
    GX96_writeTimer_54 a0 a1 a3 a4 M)
def HX96_writeTimer_0 (a0 : Nat) (a1 : Int64) (a3 : Int32) (a4 : Int64) (M : FM) : Prop := ((a3 = (Int32.ofInt 4) → ((0 ≤ (lg_cmp a1 ((Int64.ofInt 4) * (M.1 395 a0 0).toInt64)) → HX96_writeTimer_54 a0 a1 a3 a4 M) ∧ (¬ (0 ≤ (lg_cmp a1 ((Int64.ofInt 4) * (M.1 395 a0 0).toInt64))) → (((lg_cmp (a1 - a1 / (Int64.ofInt 4) * (Int64.ofInt 4)) (Int64.ofInt 0)) = 0 → (((lg_cmp (a4 &&& (Int64.ofInt 1)) (Int64.ofInt 1)) = 0 → HX96_writeTimer_53 a0 a1 a3 a4 (M.2.2 396 a0 0) ((a1 / (Int64.ofInt 4)).toInt32) (Int32.ofInt 1) M) ∧ (¬ ((lg_cmp (a4 &&& (Int64.ofInt 1)) (Int64.ofInt 1)) = 0) → HX96_writeTimer_53 a0 a1 a3 a4 (M.2.2 396 a0 0) ((a1 / (Int64.ofInt 4)).toInt32) (Int32.ofInt 0) M))) ∧ (¬ ((lg_cmp (a1 - a1 / (Int64.ofInt 4) * (Int64.ofInt 4)) (Int64.ofInt 0)) = 0) → HX96_writeTimer_54 a0 a1 a3 a4 M))))) ∧ (¬ (a3 = (Int32.ofInt 4)) → HX96_writeTimer_54 a0 a1 a3 a4 M))
theorem gX96_writeTimer_0 (a0 : Nat) (a1 : Int64) (a3 : Int32) (a4 : Int64) (M : FM) (T : Ty M) (n_a0 : fm_is M 99 99 a0 = true) (h : HX96_writeTimer_0 a0 a1 a3 a4 M) : gd (FX96_writeTimer_0 a0 a1 a3 a4 M) (GX96_writeTimer_0 a0 a1 a3 a4 M) (OkV M) := by
  delta FX96_writeTimer_0 BX96_writeTimer_0
  refine gd_fi (fun c0_0 => ?_) (fun c0_0 => ?_)
  · refine gd_c n_a0 ?_
    refine gd_fi (fun c1_0 => ?_) (fun c1_0 => ?_)
    · exact gd_tV (ext_r _) (gX96_writeTimer_54 _ _ _ _ _ ⟨T.1, T.2⟩ n_a0 ((h.1 c0_0).1 c1_0))
    · refine gd_n (by decide) ?_
      refine gd_fi (fun c2_0 => ?_) (fun c2_0 => ?_)
      · refine gd_c n_a0 ?_
        refine gd_n (by decide) ?_
        refine gd_fi (fun c3_0 => ?_) (fun c3_0 => ?_)
        · have f4 := (tN_396 T.1 n_a0)
          exact gd_tV (ext_r _) (gX96_writeTimer_53 _ _ _ _ _ _ _ _ ⟨T.1, T.2⟩ f4 n_a0 ((((h.1 c0_0).2 c1_0).1 c2_0).1 c3_0))
        · have f5 := (tN_396 T.1 n_a0)
          exact gd_tV (ext_r _) (gX96_writeTimer_53 _ _ _ _ _ _ _ _ ⟨T.1, T.2⟩ f5 n_a0 ((((h.1 c0_0).2 c1_0).1 c2_0).2 c3_0))
      · exact gd_tV (ext_r _) (gX96_writeTimer_54 _ _ _ _ _ ⟨T.1, T.2⟩ n_a0 (((h.1 c0_0).2 c1_0).2 c2_0))
  · exact gd_tV (ext_r _) (gX96_writeTimer_54 _ _ _ _ _ ⟨T.1, T.2⟩ n_a0 (h.2 c0_0))
noncomputable def GX96_writeTimer (a0 : Nat) (a1 : Int64) (a3 : Int32) (a4 : Int64) (M : FM) : FM := GX96_writeTimer_0 a0 a1 a3 a4 M
def HX96_writeTimer (a0 : Nat) (a1 : Int64) (a3 : Int32) (a4 : Int64) (M : FM) : Prop := HX96_writeTimer_0 a0 a1 a3 a4 M
theorem gX96_writeTimer (a0 : Nat) (a1 : Int64) (a3 : Int32) (a4 : Int64) (M : FM) (T : Ty M) (n_a0 : fm_is M 99 99 a0 = true) (h : HX96_writeTimer a0 a1 a3 a4 M) : gd (FX96_writeTimer a0 a1 a3 a4 M) (GX96_writeTimer a0 a1 a3 a4 M) (OkV M) := gX96_writeTimer_0 a0 a1 a3 a4 M T n_a0 h
noncomputable def GX96_hasBit_19 (s0 : Int32) (M : FM) : Int32 × FM :=
  (s0, M)
theorem gX96_hasBit_19 (s0 : Int32) (M : FM) (T : Ty M) (z_s0 : s0 = 0 ∨ s0 = 1) : gd (FX96_hasBit_19 s0 M) (GX96_hasBit_19 s0 M) (OkZ M) := by
  delta FX96_hasBit_19 BX96_hasBit_19
  exact gd_z z_s0 ⟨T.1, T.2⟩ (ext_r _) rfl
noncomputable def GX96_hasBit_0 (a0 : Nat) (a1 : Int32) (a2 : Int32) (M : FM) : Int32 × FM :=
  let x1 : Nat := (M.2.2 405 a0 0)
  fi ((((M.1 3 x1 a1.toNatClampNeg) >>> (a2 &&& 31)) &&& (Int32.ofInt 1)) = (Int32.ofInt 1)) (
    GX96_hasBit_19 (Int32.ofInt 1) M) (
    GX96_hasBit_19 (Int32.ofInt 0) M)
def HX96_hasBit_0 (a0 : Nat) (a1 : Int32) (a2 : Int32) (M : FM) : Prop := let x1 : Nat := (M.2.2 405 a0 0); (fm_in M x1 a1 = true ∧ True)
theorem gX96_hasBit_0 (a0 : Nat) (a1 : Int32) (a2 : Int32) (M : FM) (T : Ty M) (n_a0 : fm_is M 99 99 a0 = true) (h : HX96_hasBit_0 a0 a1 a2 M) : gd (FX96_hasBit_0 a0 a1 a2 M) (GX96_hasBit_0 a0 a1 a2 M) (OkZ M) := by
  delta FX96_hasBit_0 BX96_hasBit_0
  refine gd_c n_a0 ?_
  have f1 := (tN_405 T.1 n_a0)
  refine gd_c ⟨f1, h.1⟩ ?_
  refine gd_fi (fun c0_0 => ?_) (fun c0_0 => ?_)
  · exact gd_tZ (ext_r _) (gX96_hasBit_19 _ _ ⟨T.1, T.2⟩ fz_1 )
  · exact gd_tZ (ext_r _) (gX96_hasBit_19 _ _ ⟨T.1, T.2⟩ fz_0 )
noncomputable def GX96_hasBit (a0 : Nat) (a1 : Int32) (a2 : Int32) (M : FM) : Int32 × FM := GX96_hasBit_0 a0 a1 a2 M
def HX96_hasBit (a0 : Nat) (a1 : Int32) (a2 : Int32) (M : FM) : Prop := HX96_hasBit_0 a0 a1 a2 M
theorem gX96_hasBit (a0 : Nat) (a1 : Int32) (a2 : Int32) (M : FM) (T : Ty M) (n_a0 : fm_is M 99 99 a0 = true) (h : HX96_hasBit a0 a1 a2 M) : gd (FX96_hasBit a0 a1 a2 M) (GX96_hasBit a0 a1 a2 M) (OkZ M) := gX96_hasBit_0 a0 a1 a2 M T n_a0 h
noncomputable def GX96_cause_58 (s0 : Int32) (M : FM) : Int32 × FM :=
  (s0, M)
theorem gX96_cause_58 (s0 : Int32) (M : FM) (T : Ty M) : gd (FX96_cause_58 s0 M) (GX96_cause_58 s0 M) (OkR M) := by
  delta FX96_cause_58 BX96_cause_58
  exact ⟨rfl, ⟨T.1, T.2⟩, (ext_r _)⟩
noncomputable def GX96_cause_57 (M : FM) : Int32 × FM :=
  GX96_cause_58 (Int32.ofInt 1) M
theorem gX96_cause_57 (M : FM) (T : Ty M) : gd (FX96_cause_57 M) (GX96_cause_57 M) (OkR M) := by
  delta FX96_cause_57 BX96_cause_57
  exact gd_tR (ext_r _) (gX96_cause_58 _ _ ⟨T.1, T.2⟩  )
noncomputable def GX96_cause_37 (a0 : Nat) (M : FM) : Int32 × FM :=
  let r1 : Int32 × FM := GX96_hasBit a0 (Int32.ofInt 1) (Int32.ofInt 1) M
  fi (r1.1 = 0) (
    GX96_cause_57 r1.2) (
    fi ((r1.2.1 409 a0 0) = 0) (
      GX96_cause_57 r1.2) (
      GX96_cause_58 (Int32.ofInt 2) r1.2))
def HX96_cause_37 (a0 : Nat) (M : FM) : Prop := (HX96_hasBit a0 (Int32.ofInt 1) (Int32.ofInt 1) M ∧ True)
theorem gX96_cause_37 (a0 : Nat) (M : FM) (T : Ty M) (n_a0 : fm_is M 99 99 a0 = true) (h : HX96_cause_37 a0 M) : gd (FX96_cause_37 a0 M) (GX96_cause_37 a0 M) (OkR M) := by
  delta FX96_cause_37 BX96_cause_37
  refine gd_c n_a0 ?_
  refine gd_b (gX96_hasBit _ _ _ _ ⟨T.1, T.2⟩ n_a0 h.1) (fun K0 => ?_)
  refine gd_fi (fun c1_0 => ?_) (fun c1_0 => ?_)
  · exact gd_tR K0.2.1 (gX96_cause_57  _ ⟨K0.1.1, K0.1.2⟩  )
  · have f2 := (ext_is K0.2.1 (Nat.zero_lt_succ _) n_a0)
    refine gd_c f2 ?_
    refine gd_fi (fun c3_0 => ?_) (fun c3_0 => ?_)
    · exact gd_tR K0.2.1 (gX96_cause_57  _ ⟨K0.1.1, K0.1.2⟩  )
    · exact gd_tR K0.2.1 (gX96_cause_58 _ _ ⟨K0.1.1, K0.1.2⟩  )
noncomputable def GX96_cause_19 (a0 : Nat) (M : FM) : Int32 × FM :=
  let r1 : Int32 × FM := GX96_hasBit a0 (Int32.ofInt 1) (Int32.ofInt 0) M
  fi (r1.1 = 0) (
    GX96_cause_37 a0 r1.2) (
    fi ((r1.2.1 411 a0 0) ≤ 0) (
      GX96_cause_37 a0 r1.2) (
      ((Int32.ofInt 4), r1.2)))
def HX96_cause_19 (a0 : Nat) (M : FM) : Prop := (HX96_hasBit a0 (Int32.ofInt 1) (Int32.ofInt 0) M ∧ let r1 : Int32 × FM := GX96_hasBit a0 (Int32.ofInt 1) (Int32.ofInt 0) M; ((r1.1 = 0 → HX96_cause_37 a0 r1.2) ∧ (¬ (r1.1 = 0) → (((r1.2.1 411 a0 0) ≤ 0 → HX96_cause_37 a0 r1.2) ∧ (¬ ((r1.2.1 411 a0 0) ≤ 0) → True)))))
theorem gX96_cause_19 (a0 : Nat) (M : FM) (T : Ty M) (n_a0 : fm_is M 99 99 a0 = true) (h : HX96_cause_19 a0 M) : gd (FX96_cause_19 a0 M) (GX96_cause_19 a0 M) (OkR M) := by
  delta FX96_cause_19 BX96_cause_19
  refine gd_c n_a0 ?_
  refine gd_b (gX96_hasBit _ _ _ _ ⟨T.1, T.2⟩ n_a0 h.1) (fun K0 => ?_)
  refine gd_fi (fun c1_0 => ?_) (fun c1_0 => ?_)
  · have f2 := (ext_is K0.2.1 (Nat.zero_lt_succ _) n_a0)
    exact gd_tR K0.2.1 (gX96_cause_37 _ _ ⟨K0.1.1, K0.1.2⟩ f2 (h.2.1 c1_0))
  · have f3 := (ext_is K0.2.1 (Nat.zero_lt_succ _) n_a0)
    refine gd_c f3 ?_
    refine gd_fi (fun c4_0 => ?_) (fun c4_0 => ?_)
    · have f5 := (ext_is K0.2.1 (Nat.zero_lt_succ _) n_a0)
      exact gd_tR K0.2.1 (gX96_cause_37 _ _ ⟨K0.1.1, K0.1.2⟩ f5 ((h.2.2 c1_0).1 c4_0))
    · exact ⟨rfl, ⟨K0.1.1, K0.1.2⟩, K0.2.1⟩
noncomputable def GX96_cause_0 (a0 : Nat) (M : FM) : Int32 × FM :=
  let r1 : Int32 × FM := GX96_hasBit a0 (Int32.ofInt 1) (Int32.ofInt 2) M
  fi (r1.1 = 0) (
    GX96_cause_19 a0 r1.2) (
    fi ((r1.2.1 408 a0 0) = 0) (
      GX96_cause_19 a0 r1.2) (
      ((Int32.ofInt 6), r1.2)))
def HX96_cause_0 (a0 : Nat) (M : FM) : Prop := (HX96_hasBit a0 (Int32.ofInt 1) (Int32.ofInt 2) M ∧ let r1 : Int32 × FM := GX96_hasBit a0 (Int32.ofInt 1) (Int32.ofInt 2) M; ((r1.1 = 0 → HX96_cause_19 a0 r1.2) ∧ (¬ (r1.1 = 0) → (((r1.2.1 408 a0 0) = 0 → HX96_cause_19 a0 r1.2) ∧ (¬ ((r1.2.1 408 a0 0) = 0) → True)))))
theorem gX96_cause_0 (a0 : Nat) (M : FM) (T : Ty M) (n_a0 : fm_is M 99 99 a0 = true) (h : HX96_cause_0 a0 M) : gd (FX96_cause_0 a0 M) (GX96_cause_0 a0 M) (OkR M) := by
  delta FX96_cause_0 BX96_cause_0
  refine gd_c n_a0 ?_
  refine gd_b (gX96_hasBit _ _ _ _ ⟨T.1, T.2⟩ n_a0 h.1) (fun K0 => ?_)
  refine gd_fi (fun c1_0 => ?_) (fun c1_0 => ?_)
  · have f2 := (ext_is K0.2.1 (Nat.zero_lt_succ _) n_a0)
    exact gd_tR K0.2.1 (gX96_cause_19 _ _ ⟨K0.1.1, K0.1.2⟩ f2 (h.2.1 c1_0))
  · have f3 := (ext_is K0.2.1 (Nat.zero_lt_succ _) n_a0)
    refine gd_c f3 ?_
    refine gd_fi (fun c4_0 => ?_) (fun c4_0 => ?_)
    · have f5 := (ext_is K0.2.1 (Nat.zero_lt_succ _) n_a0)
      exact gd_tR K0.2.1 (gX96_cause_19 _ _ ⟨K0.1.1, K0.1.2⟩ f5 ((h.2.2 c1_0).1 c4_0))
    · exact ⟨rfl, ⟨K0.1.1, K0.1.2⟩, K0.2.1⟩
noncomputable def GX96_cause (a0 : Nat) (M : FM) : Int32 × FM := GX96_cause_0 a0 M
def HX96_cause (a0 : Nat) (M : FM) : Prop := HX96_cause_0 a0 M
theorem gX96_cause (a0 : Nat) (M : FM) (T : Ty M) (n_a0 : fm_is M 99 99 a0 = true) (h : HX96_cause a0 M) : gd (FX96_cause a0 M) (GX96_cause a0 M) (OkR M) := gX96_cause_0 a0 M T n_a0 h
def kX96_settle (k22 : Nat → Int32 → FM → Option (FM)) : (Nat × Int32 × FM) ⊕ (FM) → Option (FM)
  | .inl (v0, v1, M') => k22 v0 v1 M'
  | .inr (r) => some r
def pX96_settle (M : FM) : (Nat × Int32 × FM) ⊕ (FM) → Prop
  | .inl (_, _, M') => OkV M M'
  | .inr (r) => OkV M r
theorem pX96_settle_t {M M1 : FM} (e : Ext M M1) : ∀ y, pX96_settle M1 y → pX96_settle M y
  | .inl (_, _, _), h => ⟨h.1, ext_tr e h.2⟩
  | .inr (r), h => ⟨h.1, ext_tr e h.2⟩
noncomputable def GX96_settle_65 (a0 : Nat) (a1 : Int32) (s0 : Nat) (s1 : Int32) (s2 : Int32) (M : FM) : (Nat × Int32 × FM) ⊕ (FM) :=
  let M1 : FM := fm_sI M 3 s0 s1.toNatClampNeg (s2 &&& 1)
  let x2 : Int32 := a1 + (Int32.ofInt 1)
  (.inl (a0, x2, M1))
def HX96_settle_65 (a0 : Nat) (a1 : Int32) (s0 : Nat) (s1 : Int32) (s2 : Int32) (M : FM) : Prop := (fm_in M s0 s1 = true ∧ True)
theorem gX96_settle_65 (k22 : Nat → Int32 → FM → Option (FM)) (a0 : Nat) (a1 : Int32) (s0 : Nat) (s1 : Int32) (s2 : Int32) (M : FM) (T : Ty M) (n_s0 : fm_is M 904 904 s0 = true) (h : HX96_settle_65 a0 a1 s0 s1 s2 M) : gs (FX96_settle_65 fN k22 a0 a1 s0 s1 s2 M) (GX96_settle_65 a0 a1 s0 s1 s2 M) (kX96_settle k22) (pX96_settle M) := by
  delta FX96_settle_65 BX96_settle_65
  refine gs_c ⟨n_s0, h.1⟩ ?_
  exact And.intro rfl (And.intro (And.intro T.1 (tyb_s4 T.2)) ((ext_dI (ext_r _))))
noncomputable def GX96_settle_64 (a0 : Nat) (a1 : Int32) (s0 : Nat) (s1 : Int32) (M : FM) : (Nat × Int32 × FM) ⊕ (FM) :=
  GX96_settle_65 a0 a1 s0 s1 (Int32.ofInt 0) M
def HX96_settle_64 (a0 : Nat) (a1 : Int32) (s0 : Nat) (s1 : Int32) (M : FM) : Prop := HX96_settle_65 a0 a1 s0 s1 (Int32.ofInt 0) M
theorem gX96_settle_64 (k22 : Nat → Int32 → FM → Option (FM)) (a0 : Nat) (a1 : Int32) (s0 : Nat) (s1 : Int32) (M : FM) (T : Ty M) (n_s0 : fm_is M 904 904 s0 = true) (h : HX96_settle_64 a0 a1 s0 s1 M) : gs (FX96_settle_64 fN k22 a0 a1 s0 s1 M) (GX96_settle_64 a0 a1 s0 s1 M) (kX96_settle k22) (pX96_settle M) := by
  delta FX96_settle_64 BX96_settle_64
  exact gs_t (pX96_settle_t (ext_r _)) (gX96_settle_65 k22 _ _ _ _ _ _ ⟨T.1, T.2⟩ n_s0 h)
noncomputable def GX96_settle_60 (a0 : Nat) (a1 : Int32) (s0 : Nat) (s1 : Int32) (M : FM) : (Nat × Int32 × FM) ⊕ (FM) :=
  GX96_settle_65 a0 a1 s0 s1 (Int32.ofInt 1) M
def HX96_settle_60 (a0 : Nat) (a1 : Int32) (s0 : Nat) (s1 : Int32) (M : FM) : Prop := HX96_settle_65 a0 a1 s0 s1 (Int32.ofInt 1) M
theorem gX96_settle_60 (k22 : Nat → Int32 → FM → Option (FM)) (a0 : Nat) (a1 : Int32) (s0 : Nat) (s1 : Int32) (M : FM) (T : Ty M) (n_s0 : fm_is M 904 904 s0 = true) (h : HX96_settle_60 a0 a1 s0 s1 M) : gs (FX96_settle_60 fN k22 a0 a1 s0 s1 M) (GX96_settle_60 a0 a1 s0 s1 M) (kX96_settle k22) (pX96_settle M) := by
  delta FX96_settle_60 BX96_settle_60
  exact gs_t (pX96_settle_t (ext_r _)) (gX96_settle_65 k22 _ _ _ _ _ _ ⟨T.1, T.2⟩ n_s0 h)
noncomputable def GX96_settle_19 (a0 : Nat) (s0 : Nat) (s1 : Int32) (s2 : Int32) (M : FM) : (Nat × Int32 × FM) ⊕ (FM) :=
  let M1 : FM := fm_sI M 3 s0 s1.toNatClampNeg (s2 &&& 1)
  (.inl (a0, (Int32.ofInt 1), M1))
def HX96_settle_19 (a0 : Nat) (s0 : Nat) (s1 : Int32) (s2 : Int32) (M : FM) : Prop := (fm_in M s0 s1 = true ∧ True)
theorem gX96_settle_19 (k22 : Nat → Int32 → FM → Option (FM)) (a0 : Nat) (s0 : Nat) (s1 : Int32) (s2 : Int32) (M : FM) (T : Ty M) (n_s0 : fm_is M 904 904 s0 = true) (h : HX96_settle_19 a0 s0 s1 s2 M) : gs (FX96_settle_19 fN k22 a0 s0 s1 s2 M) (GX96_settle_19 a0 s0 s1 s2 M) (kX96_settle k22) (pX96_settle M) := by
  delta FX96_settle_19 BX96_settle_19
  refine gs_c ⟨n_s0, h.1⟩ ?_
  exact And.intro rfl (And.intro (And.intro T.1 (tyb_s4 T.2)) ((ext_dI (ext_r _))))
noncomputable def GX96_settle_0 (a0 : Nat) (M : FM) : (Nat × Int32 × FM) ⊕ (FM) :=
  let r1 : Int32 × FM := GX96_cause a0 M
  fi (r1.1 = (Int32.ofInt 1)) (
    GX96_settle_19 a0 (M.2.2 399 a0 0) (Int32.ofInt 10) (Int32.ofInt 0) r1.2) (
    GX96_settle_19 a0 (M.2.2 399 a0 0) (Int32.ofInt 10) (Int32.ofInt 1) r1.2)
def HX96_settle_0 (a0 : Nat) (M : FM) : Prop := (HX96_cause a0 M ∧ let r1 : Int32 × FM := GX96_cause a0 M; ((r1.1 = (Int32.ofInt 1) → HX96_settle_19 a0 (M.2.2 399 a0 0) (Int32.ofInt 10) (Int32.ofInt 0) r1.2) ∧ (¬ (r1.1 = (Int32.ofInt 1)) → HX96_settle_19 a0 (M.2.2 399 a0 0) (Int32.ofInt 10) (Int32.ofInt 1) r1.2)))
theorem gX96_settle_0 (k22 : Nat → Int32 → FM → Option (FM)) (a0 : Nat) (M : FM) (T : Ty M) (n_a0 : fm_is M 99 99 a0 = true) (h : HX96_settle_0 a0 M) : gs (FX96_settle_0 fN k22 a0 M) (GX96_settle_0 a0 M) (kX96_settle k22) (pX96_settle M) := by
  delta FX96_settle_0 BX96_settle_0
  refine gs_c n_a0 ?_
  refine gs_c n_a0 ?_
  refine gs_b (gX96_cause _ _ ⟨T.1, T.2⟩ n_a0 h.1) (fun K0 => ?_)
  refine gs_fi (fun c1_0 => ?_) (fun c1_0 => ?_)
  · have f2 := (ext_is K0.2 (Nat.zero_lt_succ _) (tN_399 T.1 n_a0))
    exact gs_t (pX96_settle_t K0.2) (gX96_settle_19 k22 _ _ _ _ _ ⟨K0.1.1, K0.1.2⟩ f2 (h.2.1 c1_0))
  · have f3 := (ext_is K0.2 (Nat.zero_lt_succ _) (tN_399 T.1 n_a0))
    exact gs_t (pX96_settle_t K0.2) (gX96_settle_19 k22 _ _ _ _ _ ⟨K0.1.1, K0.1.2⟩ f3 (h.2.2 c1_0))
noncomputable def GX96_settle_22 (a0 : Nat) (a1 : Int32) (M : FM) : (Nat × Int32 × FM) ⊕ (FM) :=
  fi ((Int32.ofInt 32) ≤ a1) (
    (.inr M)) (
    let x1 : Nat := (M.2.2 400 a0 0)
    fi ((M.1 3 x1 a1.toNatClampNeg) = 0) (
      let x2 : Nat := (M.2.2 399 a0 0)
      fi ((M.1 3 x2 a1.toNatClampNeg) = 0) (
        GX96_settle_64 a0 a1 (M.2.2 400 a0 0) a1 M) (
        let x3 : Nat := (M.2.2 401 a0 0)
        fi ((M.1 3 x3 a1.toNatClampNeg) = 0) (
          GX96_settle_60 a0 a1 (M.2.2 400 a0 0) a1 M) (
          GX96_settle_64 a0 a1 (M.2.2 400 a0 0) a1 M))) (
      GX96_settle_60 a0 a1 (M.2.2 400 a0 0) a1 M))
def HX96_settle_22 (a0 : Nat) (a1 : Int32) (M : FM) : Prop := (((Int32.ofInt 32) ≤ a1 → True) ∧ (¬ ((Int32.ofInt 32) ≤ a1) → let x1 : Nat := (M.2.2 400 a0 0); (fm_in M x1 a1 = true ∧ (((M.1 3 x1 a1.toNatClampNeg) = 0 → let x2 : Nat := (M.2.2 399 a0 0); (fm_in M x2 a1 = true ∧ (((M.1 3 x2 a1.toNatClampNeg) = 0 → HX96_settle_64 a0 a1 (M.2.2 400 a0 0) a1 M) ∧ (¬ ((M.1 3 x2 a1.toNatClampNeg) = 0) → let x3 : Nat := (M.2.2 401 a0 0); (fm_in M x3 a1 = true ∧ (((M.1 3 x3 a1.toNatClampNeg) = 0 → HX96_settle_60 a0 a1 (M.2.2 400 a0 0) a1 M) ∧ (¬ ((M.1 3 x3 a1.toNatClampNeg) = 0) → HX96_settle_64 a0 a1 (M.2.2 400 a0 0) a1 M))))))) ∧ (¬ ((M.1 3 x1 a1.toNatClampNeg) = 0) → HX96_settle_60 a0 a1 (M.2.2 400 a0 0) a1 M)))))
theorem gX96_settle_22 (k22 : Nat → Int32 → FM → Option (FM)) (a0 : Nat) (a1 : Int32) (M : FM) (T : Ty M) (n_a0 : fm_is M 99 99 a0 = true) (h : HX96_settle_22 a0 a1 M) : gs (FX96_settle_22 fN k22 a0 a1 M) (GX96_settle_22 a0 a1 M) (kX96_settle k22) (pX96_settle M) := by
  delta FX96_settle_22 BX96_settle_22
  refine gs_fi (fun c0_0 => ?_) (fun c0_0 => ?_)
  · exact And.intro rfl (And.intro (And.intro T.1 T.2) ((ext_r _)))
  · refine gs_c n_a0 ?_
    refine gs_c n_a0 ?_
    have f12 := (tN_400 T.1 n_a0)
    refine gs_c ⟨f12, (h.2 c0_0).1⟩ ?_
    refine gs_fi (fun c1_0 => ?_) (fun c1_0 => ?_)
    · refine gs_c n_a0 ?_
      have f9 := (tN_399 T.1 n_a0)
      have f10 := ((h.2 c0_0).2.1 c1_0).1
      refine gs_c ⟨f9, f10⟩ ?_
      refine gs_fi (fun c2_0 => ?_) (fun c2_0 => ?_)
      · have f3 := (tN_400 T.1 n_a0)
        exact gs_t (pX96_settle_t (ext_r _)) (gX96_settle_64 k22 _ _ _ _ _ ⟨T.1, T.2⟩ f3 (((h.2 c0_0).2.1 c1_0).2.1 c2_0))
      · refine gs_c n_a0 ?_
        have f7 := (tN_401 T.1 n_a0)
        have f8 := (((h.2 c0_0).2.1 c1_0).2.2 c2_0).1
        refine gs_c ⟨f7, f8⟩ ?_
        refine gs_fi (fun c4_0 => ?_) (fun c4_0 => ?_)
        · have f5 := (tN_400 T.1 n_a0)
          exact gs_t (pX96_settle_t (ext_r _)) (gX96_settle_60 k22 _ _ _ _ _ ⟨T.1, T.2⟩ f5 ((((h.2 c0_0).2.1 c1_0).2.2 c2_0).2.1 c4_0))
        · have f6 := (tN_400 T.1 n_a0)
          exact gs_t (pX96_settle_t (ext_r _)) (gX96_settle_64 k22 _ _ _ _ _ ⟨T.1, T.2⟩ f6 ((((h.2 c0_0).2.1 c1_0).2.2 c2_0).2.2 c4_0))
    · have f11 := (tN_400 T.1 n_a0)
      exact gs_t (pX96_settle_t (ext_r _)) (gX96_settle_60 k22 _ _ _ _ _ ⟨T.1, T.2⟩ f11 ((h.2 c0_0).2.2 c1_0))
noncomputable def GX96_settle (a0 : Nat) (M : FM) : FM := (FX96_settle fN a0 M).getD M
def HX96_settle (a0 : Nat) (M : FM) : Prop := ∃ r, FX96_settle fN a0 M = some r ∧ OkV M r
theorem gX96_settle (a0 : Nat) (M : FM) (h : HX96_settle a0 M) : gd (FX96_settle fN a0 M) (GX96_settle a0 M) (OkV M) := gd_op h
noncomputable def GX96_contextAt_59 (s0 : Int32) (M : FM) : Int32 × FM :=
  (s0, M)
theorem gX96_contextAt_59 (s0 : Int32) (M : FM) (T : Ty M) : gd (FX96_contextAt_59 s0 M) (GX96_contextAt_59 s0 M) (OkR M) := by
  delta FX96_contextAt_59 BX96_contextAt_59
  exact ⟨rfl, ⟨T.1, T.2⟩, (ext_r _)⟩
noncomputable def GX96_contextAt_41 (a1 : Int64) (a3 : Int64) (a5 : Int64) (s0 : Int32) (M : FM) : Int32 × FM :=
  fi (s0 = 0) (
    GX96_contextAt_59 (Int32.ofInt (-1)) M) (
    GX96_contextAt_59 (((a1 - a3) / a5).toInt32) M)
def HX96_contextAt_41 (a1 : Int64) (a3 : Int64) (a5 : Int64) (s0 : Int32) (M : FM) : Prop := ((s0 = 0 → True) ∧ (¬ (s0 = 0) → (¬ a5 = 0 ∧ True)))
theorem gX96_contextAt_41 (a1 : Int64) (a3 : Int64) (a5 : Int64) (s0 : Int32) (M : FM) (T : Ty M) (h : HX96_contextAt_41 a1 a3 a5 s0 M) : gd (FX96_contextAt_41 a1 a3 a5 s0 M) (GX96_contextAt_41 a1 a3 a5 s0 M) (OkR M) := by
  delta FX96_contextAt_41 BX96_contextAt_41
  refine gd_fi (fun c0_0 => ?_) (fun c0_0 => ?_)
  · exact gd_tR (ext_r _) (gX96_contextAt_59 _ _ ⟨T.1, T.2⟩  )
  · refine gd_n (h.2 c0_0).1 ?_
    exact gd_tR (ext_r _) (gX96_contextAt_59 _ _ ⟨T.1, T.2⟩  )
noncomputable def GX96_contextAt_40 (a1 : Int64) (a3 : Int64) (a5 : Int64) (M : FM) : Int32 × FM :=
  GX96_contextAt_41 a1 a3 a5 (Int32.ofInt 0) M
def HX96_contextAt_40 (a1 : Int64) (a3 : Int64) (a5 : Int64) (M : FM) : Prop := HX96_contextAt_41 a1 a3 a5 (Int32.ofInt 0) M
theorem gX96_contextAt_40 (a1 : Int64) (a3 : Int64) (a5 : Int64) (M : FM) (T : Ty M) (h : HX96_contextAt_40 a1 a3 a5 M) : gd (FX96_contextAt_40 a1 a3 a5 M) (GX96_contextAt_40 a1 a3 a5 M) (OkR M) := by
  delta FX96_contextAt_40 BX96_contextAt_40
  exact gd_tR (ext_r _) (gX96_contextAt_41 _ _ _ _ _ ⟨T.1, T.2⟩  h)
noncomputable def GX96_contextAt_0 (a0 : Nat) (a1 : Int64) (a3 : Int64) (a5 : Int64) (M : FM) : Int32 × FM :=
  fi ((lg_cmp a1 a3) < 0) (
    GX96_contextAt_40 a1 a3 a5 M) (
    let x1 : Int64 := (a1 - a3)
    fi ((lg_cmp (x1 - x1 / a5 * a5) (Int64.ofInt 0)) = 0) (
      fi (0 ≤ (lg_cmp ((a1 - a3) / a5) ((Int64.ofInt 2) * (M.1 395 a0 0).toInt64))) (
        GX96_contextAt_40 a1 a3 a5 M) (
        GX96_contextAt_41 a1 a3 a5 (Int32.ofInt 1) M)) (
      GX96_contextAt_40 a1 a3 a5 M))
def HX96_contextAt_0 (a0 : Nat) (a1 : Int64) (a3 : Int64) (a5 : Int64) (M : FM) : Prop := (((lg_cmp a1 a3) < 0 → HX96_contextAt_40 a1 a3 a5 M) ∧ (¬ ((lg_cmp a1 a3) < 0) → let x1 : Int64 := (a1 - a3); (¬ a5 = 0 ∧ (((lg_cmp (x1 - x1 / a5 * a5) (Int64.ofInt 0)) = 0 → (¬ a5 = 0 ∧ ((0 ≤ (lg_cmp ((a1 - a3) / a5) ((Int64.ofInt 2) * (M.1 395 a0 0).toInt64)) → HX96_contextAt_40 a1 a3 a5 M) ∧ (¬ (0 ≤ (lg_cmp ((a1 - a3) / a5) ((Int64.ofInt 2) * (M.1 395 a0 0).toInt64))) → HX96_contextAt_41 a1 a3 a5 (Int32.ofInt 1) M)))) ∧ (¬ ((lg_cmp (x1 - x1 / a5 * a5) (Int64.ofInt 0)) = 0) → HX96_contextAt_40 a1 a3 a5 M)))))
theorem gX96_contextAt_0 (a0 : Nat) (a1 : Int64) (a3 : Int64) (a5 : Int64) (M : FM) (T : Ty M) (n_a0 : fm_is M 99 99 a0 = true) (h : HX96_contextAt_0 a0 a1 a3 a5 M) : gd (FX96_contextAt_0 a0 a1 a3 a5 M) (GX96_contextAt_0 a0 a1 a3 a5 M) (OkR M) := by
  delta FX96_contextAt_0 BX96_contextAt_0
  refine gd_fi (fun c0_0 => ?_) (fun c0_0 => ?_)
  · exact gd_tR (ext_r _) (gX96_contextAt_40 _ _ _ _ ⟨T.1, T.2⟩  (h.1 c0_0))
  · refine gd_n (h.2 c0_0).1 ?_
    refine gd_fi (fun c1_0 => ?_) (fun c1_0 => ?_)
    · refine gd_n ((h.2 c0_0).2.1 c1_0).1 ?_
      refine gd_c n_a0 ?_
      refine gd_fi (fun c2_0 => ?_) (fun c2_0 => ?_)
      · exact gd_tR (ext_r _) (gX96_contextAt_40 _ _ _ _ ⟨T.1, T.2⟩  (((h.2 c0_0).2.1 c1_0).2.1 c2_0))
      · exact gd_tR (ext_r _) (gX96_contextAt_41 _ _ _ _ _ ⟨T.1, T.2⟩  (((h.2 c0_0).2.1 c1_0).2.2 c2_0))
    · exact gd_tR (ext_r _) (gX96_contextAt_40 _ _ _ _ ⟨T.1, T.2⟩  ((h.2 c0_0).2.2 c1_0))
noncomputable def GX96_contextAt (a0 : Nat) (a1 : Int64) (a3 : Int64) (a5 : Int64) (M : FM) : Int32 × FM := GX96_contextAt_0 a0 a1 a3 a5 M
def HX96_contextAt (a0 : Nat) (a1 : Int64) (a3 : Int64) (a5 : Int64) (M : FM) : Prop := HX96_contextAt_0 a0 a1 a3 a5 M
theorem gX96_contextAt (a0 : Nat) (a1 : Int64) (a3 : Int64) (a5 : Int64) (M : FM) (T : Ty M) (n_a0 : fm_is M 99 99 a0 = true) (h : HX96_contextAt a0 a1 a3 a5 M) : gd (FX96_contextAt a0 a1 a3 a5 M) (GX96_contextAt a0 a1 a3 a5 M) (OkR M) := gX96_contextAt_0 a0 a1 a3 a5 M T n_a0 h
noncomputable def GX96_isSource_19 (s0 : Int32) (M : FM) : Int32 × FM :=
  (s0, M)
theorem gX96_isSource_19 (s0 : Int32) (M : FM) (T : Ty M) (z_s0 : s0 = 0 ∨ s0 = 1) : gd (FX96_isSource_19 s0 M) (GX96_isSource_19 s0 M) (OkZ M) := by
  delta FX96_isSource_19 BX96_isSource_19
  exact gd_z z_s0 ⟨T.1, T.2⟩ (ext_r _) rfl
noncomputable def GX96_isSource_18 (M : FM) : Int32 × FM :=
  GX96_isSource_19 (Int32.ofInt 0) M
theorem gX96_isSource_18 (M : FM) (T : Ty M) : gd (FX96_isSource_18 M) (GX96_isSource_18 M) (OkZ M) := by
  delta FX96_isSource_18 BX96_isSource_18
  exact gd_tZ (ext_r _) (gX96_isSource_19 _ _ ⟨T.1, T.2⟩ fz_0 )
noncomputable def GX96_isSource_0 (a0 : Int64) (M : FM) : Int32 × FM :=
  fi ((lg_cmp a0 (Int64.ofInt 0)) ≤ 0) (
    GX96_isSource_18 M) (
    fi (0 ≤ (lg_cmp a0 (Int64.ofInt 32))) (
      GX96_isSource_18 M) (
      GX96_isSource_19 (Int32.ofInt 1) M))
theorem gX96_isSource_0 (a0 : Int64) (M : FM) (T : Ty M) : gd (FX96_isSource_0 a0 M) (GX96_isSource_0 a0 M) (OkZ M) := by
  delta FX96_isSource_0 BX96_isSource_0
  refine gd_fi (fun c0_0 => ?_) (fun c0_0 => ?_)
  · exact gd_tZ (ext_r _) (gX96_isSource_18  _ ⟨T.1, T.2⟩  )
  · refine gd_fi (fun c1_0 => ?_) (fun c1_0 => ?_)
    · exact gd_tZ (ext_r _) (gX96_isSource_18  _ ⟨T.1, T.2⟩  )
    · exact gd_tZ (ext_r _) (gX96_isSource_19 _ _ ⟨T.1, T.2⟩ fz_1 )
noncomputable def GX96_isSource (a0 : Int64) (M : FM) : Int32 × FM := GX96_isSource_0 a0 M
theorem gX96_isSource (a0 : Int64) (M : FM) (T : Ty M) : gd (FX96_isSource a0 M) (GX96_isSource a0 M) (OkZ M) := gX96_isSource_0 a0 M T 
noncomputable def GX96_writeController_161 (M : FM) : FM :=
  M
theorem gX96_writeController_161 (M : FM) (T : Ty M) : gd (FX96_writeController_161 M) (GX96_writeController_161 M) (OkV M) := by
  delta FX96_writeController_161 BX96_writeController_161
  exact ⟨rfl, ⟨T.1, T.2⟩, (ext_r _)⟩
noncomputable def GX96_writeController_107 (a0 : Nat) (a1 : Int64) (a3 : Int64) (M : FM) : FM :=
  let r1 : Int32 × FM := GX96_contextAt a0 a1 (Int64.ofInt 2097156) (Int64.ofInt 4096) M
  let x2 : Int64 := (a3 &&& (Int64.ofInt 4294967295))
  fi (r1.1 < 0) (
    GX96_writeController_161 r1.2) (
    let r3 : Int32 × FM := GX96_isSource x2 r1.2
    fi (r3.1 = 0) (
      GX96_writeController_161 r3.2) (
      let r4 : Int32 × FM := GX96_enables a0 r1.1 x2.toInt32 r3.2
      fi (r4.1 = 0) (
        GX96_writeController_161 r4.2) (
        let x5 : Int32 := x2.toInt32
        let x6 : Nat := (r4.2.2.2 401 a0 0)
        let M7 : FM := fm_sI r4.2 3 x6 x5.toNatClampNeg ((Int32.ofInt 0) &&& 1)
        GX96_writeController_161 M7)))
def HX96_writeController_107 (a0 : Nat) (a1 : Int64) (a3 : Int64) (M : FM) : Prop := (HX96_contextAt a0 a1 (Int64.ofInt 2097156) (Int64.ofInt 4096) M ∧ let r1 : Int32 × FM := GX96_contextAt a0 a1 (Int64.ofInt 2097156) (Int64.ofInt 4096) M; let x2 : Int64 := (a3 &&& (Int64.ofInt 4294967295)); ((r1.1 < 0 → True) ∧ (¬ (r1.1 < 0) → let r3 : Int32 × FM := GX96_isSource x2 r1.2; ((r3.1 = 0 → True) ∧ (¬ (r3.1 = 0) → (HX96_enables a0 r1.1 x2.toInt32 r3.2 ∧ let r4 : Int32 × FM := GX96_enables a0 r1.1 x2.toInt32 r3.2; ((r4.1 = 0 → True) ∧ (¬ (r4.1 = 0) → let x5 : Int32 := x2.toInt32; let x6 : Nat := (r4.2.2.2 401 a0 0); (fm_in r4.2 x6 x5 = true ∧ True)))))))))
theorem gX96_writeController_107 (a0 : Nat) (a1 : Int64) (a3 : Int64) (M : FM) (T : Ty M) (n_a0 : fm_is M 99 99 a0 = true) (h : HX96_writeController_107 a0 a1 a3 M) : gd (FX96_writeController_107 a0 a1 a3 M) (GX96_writeController_107 a0 a1 a3 M) (OkV M) := by
  delta FX96_writeController_107 BX96_writeController_107
  refine gd_c n_a0 ?_
  refine gd_b (gX96_contextAt _ _ _ _ _ ⟨T.1, T.2⟩ n_a0 h.1) (fun K0 => ?_)
  refine gd_fi (fun c1_0 => ?_) (fun c1_0 => ?_)
  · exact gd_tV K0.2 (gX96_writeController_161  _ ⟨K0.1.1, K0.1.2⟩  )
  · refine gd_b (gX96_isSource _ _ ⟨K0.1.1, K0.1.2⟩  ) (fun K2 => ?_)
    refine gd_fi (fun c3_0 => ?_) (fun c3_0 => ?_)
    · exact gd_tV (ext_tr K0.2 K2.2.1) (gX96_writeController_161  _ ⟨K2.1.1, K2.1.2⟩  )
    · have f4 := (ext_is K2.2.1 (Nat.zero_lt_succ _) (ext_is K0.2 (Nat.zero_lt_succ _) n_a0))
      refine gd_c f4 ?_
      have f10 := (ext_is K2.2.1 (Nat.zero_lt_succ _) (ext_is K0.2 (Nat.zero_lt_succ _) n_a0))
      refine gd_b (gX96_enables _ _ _ _ ⟨K2.1.1, K2.1.2⟩ f10 ((h.2.2 c1_0).2 c3_0).1) (fun K5 => ?_)
      refine gd_fi (fun c6_0 => ?_) (fun c6_0 => ?_)
      · exact gd_tV (ext_tr K0.2 (ext_tr K2.2.1 K5.2.1)) (gX96_writeController_161  _ ⟨K5.1.1, K5.1.2⟩  )
      · have f7 := (ext_is K5.2.1 (Nat.zero_lt_succ _) (ext_is K2.2.1 (Nat.zero_lt_succ _) (ext_is K0.2 (Nat.zero_lt_succ _) n_a0)))
        refine gd_c f7 ?_
        have f8 := (tN_401 K5.1.1 (ext_is K5.2.1 (Nat.zero_lt_succ _) (ext_is K2.2.1 (Nat.zero_lt_succ _) (ext_is K0.2 (Nat.zero_lt_succ _) n_a0))))
        have f9 := (((h.2.2 c1_0).2 c3_0).2.2 c6_0).1
        refine gd_c ⟨f8, f9⟩ ?_
        exact gd_tV (ext_tr K0.2 (ext_tr K2.2.1 (ext_tr K5.2.1 (ext_dI (ext_r _))))) (gX96_writeController_161  _ ⟨K5.1.1, (tyb_s4 K5.1.2)⟩  )
noncomputable def GX96_writeController_76 (a0 : Nat) (a1 : Int64) (a3 : Int64) (M : FM) : FM :=
  let r1 : Int32 × FM := GX96_contextAt a0 a1 (Int64.ofInt 2097152) (Int64.ofInt 4096) M
  fi (r1.1 < 0) (
    GX96_writeController_107 a0 a1 a3 r1.2) (
    let x2 : Nat := (r1.2.2.2 404 a0 0)
    let M3 : FM := fm_sI r1.2 3 x2 r1.1.toNatClampNeg ((a3 &&& (Int64.ofInt 7)).toInt32)
    GX96_writeController_107 a0 a1 a3 M3)
def HX96_writeController_76 (a0 : Nat) (a1 : Int64) (a3 : Int64) (M : FM) : Prop := (HX96_contextAt a0 a1 (Int64.ofInt 2097152) (Int64.ofInt 4096) M ∧ let r1 : Int32 × FM := GX96_contextAt a0 a1 (Int64.ofInt 2097152) (Int64.ofInt 4096) M; ((r1.1 < 0 → HX96_writeController_107 a0 a1 a3 r1.2) ∧ (¬ (r1.1 < 0) → let x2 : Nat := (r1.2.2.2 404 a0 0); (fm_in r1.2 x2 r1.1 = true ∧ let M3 : FM := fm_sI r1.2 3 x2 r1.1.toNatClampNeg ((a3 &&& (Int64.ofInt 7)).toInt32); HX96_writeController_107 a0 a1 a3 M3))))
theorem gX96_writeController_76 (a0 : Nat) (a1 : Int64) (a3 : Int64) (M : FM) (T : Ty M) (n_a0 : fm_is M 99 99 a0 = true) (h : HX96_writeController_76 a0 a1 a3 M) : gd (FX96_writeController_76 a0 a1 a3 M) (GX96_writeController_76 a0 a1 a3 M) (OkV M) := by
  delta FX96_writeController_76 BX96_writeController_76
  refine gd_c n_a0 ?_
  refine gd_b (gX96_contextAt _ _ _ _ _ ⟨T.1, T.2⟩ n_a0 h.1) (fun K0 => ?_)
  refine gd_fi (fun c1_0 => ?_) (fun c1_0 => ?_)
  · have f2 := (ext_is K0.2 (Nat.zero_lt_succ _) n_a0)
    exact gd_tV K0.2 (gX96_writeController_107 _ _ _ _ ⟨K0.1.1, K0.1.2⟩ f2 (h.2.1 c1_0))
  · have f3 := (ext_is K0.2 (Nat.zero_lt_succ _) n_a0)
    refine gd_c f3 ?_
    have f4 := (tN_404 K0.1.1 (ext_is K0.2 (Nat.zero_lt_succ _) n_a0))
    refine gd_c ⟨f4, (h.2.2 c1_0).1⟩ ?_
    have f5 := (ext_is K0.2 (Nat.zero_lt_succ _) n_a0)
    exact gd_tV (ext_tr K0.2 (ext_dI (ext_r _))) (gX96_writeController_107 _ _ _ _ ⟨K0.1.1, (tyb_s3 (t := 901) rfl K0.1.2 f4)⟩ f5 (h.2.2 c1_0).2)
noncomputable def GX96_writeController_46 (a0 : Nat) (a1 : Int64) (a3 : Int64) (M : FM) : FM :=
  let r1 : Int32 × FM := GX96_contextAt a0 a1 (Int64.ofInt 8192) (Int64.ofInt 128) M
  fi (r1.1 < 0) (
    GX96_writeController_76 a0 a1 a3 r1.2) (
    let x2 : Nat := (r1.2.2.2 403 a0 0)
    let M3 : FM := fm_sI r1.2 3 x2 r1.1.toNatClampNeg (a3.toInt32 &&& (Int32.ofInt (-2)))
    GX96_writeController_76 a0 a1 a3 M3)
def HX96_writeController_46 (a0 : Nat) (a1 : Int64) (a3 : Int64) (M : FM) : Prop := (HX96_contextAt a0 a1 (Int64.ofInt 8192) (Int64.ofInt 128) M ∧ let r1 : Int32 × FM := GX96_contextAt a0 a1 (Int64.ofInt 8192) (Int64.ofInt 128) M; ((r1.1 < 0 → HX96_writeController_76 a0 a1 a3 r1.2) ∧ (¬ (r1.1 < 0) → let x2 : Nat := (r1.2.2.2 403 a0 0); (fm_in r1.2 x2 r1.1 = true ∧ let M3 : FM := fm_sI r1.2 3 x2 r1.1.toNatClampNeg (a3.toInt32 &&& (Int32.ofInt (-2))); HX96_writeController_76 a0 a1 a3 M3))))
theorem gX96_writeController_46 (a0 : Nat) (a1 : Int64) (a3 : Int64) (M : FM) (T : Ty M) (n_a0 : fm_is M 99 99 a0 = true) (h : HX96_writeController_46 a0 a1 a3 M) : gd (FX96_writeController_46 a0 a1 a3 M) (GX96_writeController_46 a0 a1 a3 M) (OkV M) := by
  delta FX96_writeController_46 BX96_writeController_46
  refine gd_c n_a0 ?_
  refine gd_b (gX96_contextAt _ _ _ _ _ ⟨T.1, T.2⟩ n_a0 h.1) (fun K0 => ?_)
  refine gd_fi (fun c1_0 => ?_) (fun c1_0 => ?_)
  · have f2 := (ext_is K0.2 (Nat.zero_lt_succ _) n_a0)
    exact gd_tV K0.2 (gX96_writeController_76 _ _ _ _ ⟨K0.1.1, K0.1.2⟩ f2 (h.2.1 c1_0))
  · have f3 := (ext_is K0.2 (Nat.zero_lt_succ _) n_a0)
    refine gd_c f3 ?_
    have f4 := (tN_403 K0.1.1 (ext_is K0.2 (Nat.zero_lt_succ _) n_a0))
    refine gd_c ⟨f4, (h.2.2 c1_0).1⟩ ?_
    have f5 := (ext_is K0.2 (Nat.zero_lt_succ _) n_a0)
    exact gd_tV (ext_tr K0.2 (ext_dI (ext_r _))) (gX96_writeController_76 _ _ _ _ ⟨K0.1.1, (tyb_s3 (t := 901) rfl K0.1.2 f4)⟩ f5 (h.2.2 c1_0).2)
noncomputable def GX96_writeController_0 (a0 : Nat) (a1 : Int64) (a3 : Int64) (M : FM) : FM :=
  fi (0 ≤ (lg_cmp a1 (Int64.ofInt 128))) (
    GX96_writeController_46 a0 a1 a3 M) (
    fi ((lg_cmp (a1 - a1 / (Int64.ofInt 4) * (Int64.ofInt 4)) (Int64.ofInt 0)) = 0) (
      let r1 : Int32 × FM := GX96_isSource (a1 / (Int64.ofInt 4)) M
      fi (r1.1 = 0) (
        GX96_writeController_46 a0 a1 a3 r1.2) (
        let x2 : Int32 := (a1 / (Int64.ofInt 4)).toInt32
        let x3 : Nat := (r1.2.2.2 402 a0 0)
        let M4 : FM := fm_sI r1.2 3 x3 x2.toNatClampNeg ((a3 &&& (Int64.ofInt 7)).toInt32)
        GX96_writeController_46 a0 a1 a3 M4)) (
      GX96_writeController_46 a0 a1 a3 M))
def HX96_writeController_0 (a0 : Nat) (a1 : Int64) (a3 : Int64) (M : FM) : Prop := ((0 ≤ (lg_cmp a1 (Int64.ofInt 128)) → HX96_writeController_46 a0 a1 a3 M) ∧ (¬ (0 ≤ (lg_cmp a1 (Int64.ofInt 128))) → (((lg_cmp (a1 - a1 / (Int64.ofInt 4) * (Int64.ofInt 4)) (Int64.ofInt 0)) = 0 → let r1 : Int32 × FM := GX96_isSource (a1 / (Int64.ofInt 4)) M; ((r1.1 = 0 → HX96_writeController_46 a0 a1 a3 r1.2) ∧ (¬ (r1.1 = 0) → let x2 : Int32 := (a1 / (Int64.ofInt 4)).toInt32; let x3 : Nat := (r1.2.2.2 402 a0 0); (fm_in r1.2 x3 x2 = true ∧ let M4 : FM := fm_sI r1.2 3 x3 x2.toNatClampNeg ((a3 &&& (Int64.ofInt 7)).toInt32); HX96_writeController_46 a0 a1 a3 M4)))) ∧ (¬ ((lg_cmp (a1 - a1 / (Int64.ofInt 4) * (Int64.ofInt 4)) (Int64.ofInt 0)) = 0) → HX96_writeController_46 a0 a1 a3 M))))
theorem gX96_writeController_0 (a0 : Nat) (a1 : Int64) (a3 : Int64) (M : FM) (T : Ty M) (n_a0 : fm_is M 99 99 a0 = true) (h : HX96_writeController_0 a0 a1 a3 M) : gd (FX96_writeController_0 a0 a1 a3 M) (GX96_writeController_0 a0 a1 a3 M) (OkV M) := by
  delta FX96_writeController_0 BX96_writeController_0
  refine gd_fi (fun c0_0 => ?_) (fun c0_0 => ?_)
  · exact gd_tV (ext_r _) (gX96_writeController_46 _ _ _ _ ⟨T.1, T.2⟩ n_a0 (h.1 c0_0))
  · refine gd_n (by decide) ?_
    refine gd_fi (fun c1_0 => ?_) (fun c1_0 => ?_)
    · refine gd_n (by decide) ?_
      refine gd_b (gX96_isSource _ _ ⟨T.1, T.2⟩  ) (fun K2 => ?_)
      refine gd_fi (fun c3_0 => ?_) (fun c3_0 => ?_)
      · have f4 := (ext_is K2.2.1 (Nat.zero_lt_succ _) n_a0)
        exact gd_tV K2.2.1 (gX96_writeController_46 _ _ _ _ ⟨K2.1.1, K2.1.2⟩ f4 (((h.2 c0_0).1 c1_0).1 c3_0))
      · have f5 := (ext_is K2.2.1 (Nat.zero_lt_succ _) n_a0)
        refine gd_c f5 ?_
        refine gd_n (by decide) ?_
        have f6 := (tN_402 K2.1.1 (ext_is K2.2.1 (Nat.zero_lt_succ _) n_a0))
        have f7 := (((h.2 c0_0).1 c1_0).2 c3_0).1
        refine gd_c ⟨f6, f7⟩ ?_
        have f8 := (ext_is K2.2.1 (Nat.zero_lt_succ _) n_a0)
        exact gd_tV (ext_tr K2.2.1 (ext_dI (ext_r _))) (gX96_writeController_46 _ _ _ _ ⟨K2.1.1, (tyb_s3 (t := 901) rfl K2.1.2 f6)⟩ f8 (((h.2 c0_0).1 c1_0).2 c3_0).2)
    · exact gd_tV (ext_r _) (gX96_writeController_46 _ _ _ _ ⟨T.1, T.2⟩ n_a0 ((h.2 c0_0).2 c1_0))
noncomputable def GX96_writeController (a0 : Nat) (a1 : Int64) (a3 : Int64) (M : FM) : FM := GX96_writeController_0 a0 a1 a3 M
def HX96_writeController (a0 : Nat) (a1 : Int64) (a3 : Int64) (M : FM) : Prop := HX96_writeController_0 a0 a1 a3 M
theorem gX96_writeController (a0 : Nat) (a1 : Int64) (a3 : Int64) (M : FM) (T : Ty M) (n_a0 : fm_is M 99 99 a0 = true) (h : HX96_writeController a0 a1 a3 M) : gd (FX96_writeController a0 a1 a3 M) (GX96_writeController a0 a1 a3 M) (OkV M) := gX96_writeController_0 a0 a1 a3 M T n_a0 h
noncomputable def GX96_space_13 (a0 : Nat) (s0 : Int32) (M : FM) : Int32 × FM :=
  ((s0 - (M.1 411 a0 0)), M)
theorem gX96_space_13 (a0 : Nat) (s0 : Int32) (M : FM) (T : Ty M) (n_a0 : fm_is M 99 99 a0 = true) : gd (FX96_space_13 a0 s0 M) (GX96_space_13 a0 s0 M) (OkR M) := by
  delta FX96_space_13 BX96_space_13
  refine gd_c n_a0 ?_
  exact ⟨rfl, ⟨T.1, T.2⟩, (ext_r _)⟩
noncomputable def GX96_space_0 (a0 : Nat) (M : FM) : Int32 × FM :=
  fi ((M.1 407 a0 0) = 0) (
    GX96_space_13 a0 (Int32.ofInt 1) M) (
    GX96_space_13 a0 (Int32.ofInt 16) M)
theorem gX96_space_0 (a0 : Nat) (M : FM) (T : Ty M) (n_a0 : fm_is M 99 99 a0 = true) : gd (FX96_space_0 a0 M) (GX96_space_0 a0 M) (OkR M) := by
  delta FX96_space_0 BX96_space_0
  refine gd_c n_a0 ?_
  refine gd_fi (fun c0_0 => ?_) (fun c0_0 => ?_)
  · exact gd_tR (ext_r _) (gX96_space_13 _ _ _ ⟨T.1, T.2⟩ n_a0 )
  · exact gd_tR (ext_r _) (gX96_space_13 _ _ _ ⟨T.1, T.2⟩ n_a0 )
noncomputable def GX96_space (a0 : Nat) (M : FM) : Int32 × FM := GX96_space_0 a0 M
theorem gX96_space (a0 : Nat) (M : FM) (T : Ty M) (n_a0 : fm_is M 99 99 a0 = true) : gd (FX96_space a0 M) (GX96_space a0 M) (OkR M) := gX96_space_0 a0 M T n_a0 
noncomputable def GX96_takeIn_0 (a0 : Nat) (a1 : Int32) (M : FM) : Int32 × FM :=
  let r1 : Int32 × FM := GX96_space a0 M
  fi (r1.1 = 0) (
    let M2 : FM := fm_sI r1.2 408 a0 0 (Int32.ofInt 1)
    ((Int32.ofInt 0), M2)) (
    let x3 : Int32 := (r1.2.1 411 a0 0)
    let x4 : Nat := (r1.2.2.2 410 a0 0)
    let M5 : FM := fm_sI r1.2 3 x4 x3.toNatClampNeg (a1 &&& (Int32.ofInt 255))
    let M6 : FM := fm_sI M5 411 a0 0 ((M5.1 411 a0 0) + (Int32.ofInt 1))
    ((Int32.ofInt 1), M6))
def HX96_takeIn_0 (a0 : Nat) (a1 : Int32) (M : FM) : Prop := let r1 : Int32 × FM := GX96_space a0 M; ((r1.1 = 0 → True) ∧ (¬ (r1.1 = 0) → let x3 : Int32 := (r1.2.1 411 a0 0); let x4 : Nat := (r1.2.2.2 410 a0 0); (fm_in r1.2 x4 x3 = true ∧ True)))
theorem gX96_takeIn_0 (a0 : Nat) (a1 : Int32) (M : FM) (T : Ty M) (n_a0 : fm_is M 99 99 a0 = true) (h : HX96_takeIn_0 a0 a1 M) : gd (FX96_takeIn_0 a0 a1 M) (GX96_takeIn_0 a0 a1 M) (OkZ M) := by
  delta FX96_takeIn_0 BX96_takeIn_0
  refine gd_c n_a0 ?_
  refine gd_b (gX96_space _ _ ⟨T.1, T.2⟩ n_a0 ) (fun K0 => ?_)
  refine gd_fi (fun c1_0 => ?_) (fun c1_0 => ?_)
  · have f2 := (ext_is K0.2 (Nat.zero_lt_succ _) n_a0)
    refine gd_c f2 ?_
    refine gd_c fz_1 ?_
    exact gd_z fz_0 ⟨K0.1.1, (tyb_sIb (f := 408) rfl K0.1.2 fz_1)⟩ (ext_tr K0.2 (ext_dI (ext_r _))) rfl
  · have f3 := (ext_is K0.2 (Nat.zero_lt_succ _) n_a0)
    refine gd_c f3 ?_
    have f4 := (ext_is K0.2 (Nat.zero_lt_succ _) n_a0)
    refine gd_c f4 ?_
    have f5 := (tN_410 K0.1.1 (ext_is K0.2 (Nat.zero_lt_succ _) n_a0))
    refine gd_c ⟨f5, (h.2 c1_0).1⟩ ?_
    have f6 := (ext_is K0.2 (Nat.zero_lt_succ _) n_a0)
    refine gd_c f6 ?_
    have f7 := (ext_is K0.2 (Nat.zero_lt_succ _) n_a0)
    refine gd_c f7 ?_
    exact gd_z fz_1 ⟨K0.1.1, (tyb_sI (f := 411) rfl (tyb_s3 (t := 901) rfl K0.1.2 f5))⟩ (ext_tr K0.2 (ext_dI (ext_dI (ext_r _)))) rfl
noncomputable def GX96_takeIn (a0 : Nat) (a1 : Int32) (M : FM) : Int32 × FM := GX96_takeIn_0 a0 a1 M
def HX96_takeIn (a0 : Nat) (a1 : Int32) (M : FM) : Prop := HX96_takeIn_0 a0 a1 M
theorem gX96_takeIn (a0 : Nat) (a1 : Int32) (M : FM) (T : Ty M) (n_a0 : fm_is M 99 99 a0 = true) (h : HX96_takeIn a0 a1 M) : gd (FX96_takeIn a0 a1 M) (GX96_takeIn a0 a1 M) (OkZ M) := gX96_takeIn_0 a0 a1 M T n_a0 h
noncomputable def GX96_send_61 (a0 : Nat) (M : FM) : FM :=
  let M1 : FM := fm_sI M 409 a0 0 (Int32.ofInt 1)
  M1
theorem gX96_send_61 (a0 : Nat) (M : FM) (T : Ty M) (n_a0 : fm_is M 99 99 a0 = true) : gd (FX96_send_61 a0 M) (GX96_send_61 a0 M) (OkV M) := by
  delta FX96_send_61 BX96_send_61
  refine gd_c n_a0 ?_
  refine gd_c fz_1 ?_
  exact ⟨rfl, ⟨T.1, (tyb_sIb (f := 409) rfl T.2 fz_1)⟩, (ext_dI (ext_r _))⟩
noncomputable def GX96_send_30 (a0 : Nat) (s0 : Nat) (s1 : Int32) (M : FM) : FM :=
  let M1 : FM := fm_sI M 408 s0 0 s1
  GX96_send_61 a0 M1
theorem gX96_send_30 (a0 : Nat) (s0 : Nat) (s1 : Int32) (M : FM) (T : Ty M) (n_s0 : fm_is M 99 99 s0 = true) (z_s1 : s1 = 0 ∨ s1 = 1) (n_a0 : fm_is M 99 99 a0 = true) : gd (FX96_send_30 a0 s0 s1 M) (GX96_send_30 a0 s0 s1 M) (OkV M) := by
  delta FX96_send_30 BX96_send_30
  refine gd_c n_s0 ?_
  refine gd_c z_s1 ?_
  exact gd_tV (ext_dI (ext_r _)) (gX96_send_61 _ _ ⟨T.1, (tyb_sIb (f := 408) rfl T.2 z_s1)⟩ n_a0 )
noncomputable def GX96_send_25 (a0 : Nat) (s0 : Nat) (M : FM) : FM :=
  GX96_send_30 a0 s0 (Int32.ofInt 1) M
theorem gX96_send_25 (a0 : Nat) (s0 : Nat) (M : FM) (T : Ty M) (n_s0 : fm_is M 99 99 s0 = true) (n_a0 : fm_is M 99 99 a0 = true) : gd (FX96_send_25 a0 s0 M) (GX96_send_25 a0 s0 M) (OkV M) := by
  delta FX96_send_25 BX96_send_25
  exact gd_tV (ext_r _) (gX96_send_30 _ _ _ _ ⟨T.1, T.2⟩ n_s0 fz_1 n_a0 )
noncomputable def GX96_send_0 (a0 : Nat) (a1 : Int32) (M : FM) : FM :=
  let r1 : Int32 × FM := GX96_hasBit a0 (Int32.ofInt 4) (Int32.ofInt 4) M
  fi (r1.1 = 0) (
    let x2 : Int64 := (r1.2.2.1 413 a0 0)
    let x3 : Int32 := (x2 - x2 / (Int64.ofInt 4096) * (Int64.ofInt 4096)).toInt32
    let x4 : Nat := (r1.2.2.2 412 a0 0)
    let M5 : FM := fm_sI r1.2 3 x4 x3.toNatClampNeg a1
    let M6 : FM := fm_sL M5 413 a0 0 ((M5.2.1 413 a0 0) + (Int64.ofInt 1))
    GX96_send_61 a0 M6) (
    let r7 : Int32 × FM := GX96_takeIn a0 a1 r1.2
    fi (r7.1 = 0) (
      GX96_send_25 a0 a0 r7.2) (
      fi ((r7.2.1 408 a0 0) = 0) (
        GX96_send_30 a0 a0 (Int32.ofInt 0) r7.2) (
        GX96_send_25 a0 a0 r7.2)))
def HX96_send_0 (a0 : Nat) (a1 : Int32) (M : FM) : Prop := (HX96_hasBit a0 (Int32.ofInt 4) (Int32.ofInt 4) M ∧ let r1 : Int32 × FM := GX96_hasBit a0 (Int32.ofInt 4) (Int32.ofInt 4) M; ((r1.1 = 0 → let x2 : Int64 := (r1.2.2.1 413 a0 0); let x3 : Int32 := (x2 - x2 / (Int64.ofInt 4096) * (Int64.ofInt 4096)).toInt32; let x4 : Nat := (r1.2.2.2 412 a0 0); (fm_in r1.2 x4 x3 = true ∧ True)) ∧ (¬ (r1.1 = 0) → (HX96_takeIn a0 a1 r1.2 ∧ True))))
theorem gX96_send_0 (a0 : Nat) (a1 : Int32) (M : FM) (T : Ty M) (n_a0 : fm_is M 99 99 a0 = true) (h : HX96_send_0 a0 a1 M) : gd (FX96_send_0 a0 a1 M) (GX96_send_0 a0 a1 M) (OkV M) := by
  delta FX96_send_0 BX96_send_0
  refine gd_c n_a0 ?_
  refine gd_b (gX96_hasBit _ _ _ _ ⟨T.1, T.2⟩ n_a0 h.1) (fun K0 => ?_)
  refine gd_fi (fun c1_0 => ?_) (fun c1_0 => ?_)
  · have f2 := (ext_is K0.2.1 (Nat.zero_lt_succ _) n_a0)
    refine gd_c f2 ?_
    have f3 := (ext_is K0.2.1 (Nat.zero_lt_succ _) n_a0)
    refine gd_c f3 ?_
    refine gd_n (by decide) ?_
    have f4 := (tN_412 K0.1.1 (ext_is K0.2.1 (Nat.zero_lt_succ _) n_a0))
    refine gd_c ⟨f4, (h.2.1 c1_0).1⟩ ?_
    have f5 := (ext_is K0.2.1 (Nat.zero_lt_succ _) n_a0)
    refine gd_c f5 ?_
    have f6 := (ext_is K0.2.1 (Nat.zero_lt_succ _) n_a0)
    refine gd_c f6 ?_
    have f7 := (ext_is K0.2.1 (Nat.zero_lt_succ _) n_a0)
    exact gd_tV (ext_tr K0.2.1 (ext_dI (ext_dL (ext_r _)))) (gX96_send_61 _ _ ⟨K0.1.1, (tyb_s3 (t := 901) rfl K0.1.2 f4)⟩ f7 )
  · have f8 := (ext_is K0.2.1 (Nat.zero_lt_succ _) n_a0)
    refine gd_c f8 ?_
    have f19 := (ext_is K0.2.1 (Nat.zero_lt_succ _) n_a0)
    refine gd_b (gX96_takeIn _ _ _ ⟨K0.1.1, K0.1.2⟩ f19 (h.2.2 c1_0).1) (fun K9 => ?_)
    refine gd_fi (fun c10_0 => ?_) (fun c10_0 => ?_)
    · have f11 := (ext_is K9.2.1 (Nat.zero_lt_succ _) (ext_is K0.2.1 (Nat.zero_lt_succ _) n_a0))
      have f12 := (ext_is K9.2.1 (Nat.zero_lt_succ _) (ext_is K0.2.1 (Nat.zero_lt_succ _) n_a0))
      exact gd_tV (ext_tr K0.2.1 K9.2.1) (gX96_send_25 _ _ _ ⟨K9.1.1, K9.1.2⟩ f11 f12 )
    · have f13 := (ext_is K9.2.1 (Nat.zero_lt_succ _) (ext_is K0.2.1 (Nat.zero_lt_succ _) n_a0))
      refine gd_c f13 ?_
      refine gd_fi (fun c14_0 => ?_) (fun c14_0 => ?_)
      · have f15 := (ext_is K9.2.1 (Nat.zero_lt_succ _) (ext_is K0.2.1 (Nat.zero_lt_succ _) n_a0))
        have f16 := (ext_is K9.2.1 (Nat.zero_lt_succ _) (ext_is K0.2.1 (Nat.zero_lt_succ _) n_a0))
        exact gd_tV (ext_tr K0.2.1 K9.2.1) (gX96_send_30 _ _ _ _ ⟨K9.1.1, K9.1.2⟩ f15 fz_0 f16 )
      · have f17 := (ext_is K9.2.1 (Nat.zero_lt_succ _) (ext_is K0.2.1 (Nat.zero_lt_succ _) n_a0))
        have f18 := (ext_is K9.2.1 (Nat.zero_lt_succ _) (ext_is K0.2.1 (Nat.zero_lt_succ _) n_a0))
        exact gd_tV (ext_tr K0.2.1 K9.2.1) (gX96_send_25 _ _ _ ⟨K9.1.1, K9.1.2⟩ f17 f18 )
noncomputable def GX96_send (a0 : Nat) (a1 : Int32) (M : FM) : FM := GX96_send_0 a0 a1 M
def HX96_send (a0 : Nat) (a1 : Int32) (M : FM) : Prop := HX96_send_0 a0 a1 M
theorem gX96_send (a0 : Nat) (a1 : Int32) (M : FM) (T : Ty M) (n_a0 : fm_is M 99 99 a0 = true) (h : HX96_send a0 a1 M) : gd (FX96_send a0 a1 M) (GX96_send a0 a1 M) (OkV M) := gX96_send_0 a0 a1 M T n_a0 h
noncomputable def GX96_writeSerial_215 (M : FM) : FM :=
  M
theorem gX96_writeSerial_215 (M : FM) (T : Ty M) : gd (FX96_writeSerial_215 M) (GX96_writeSerial_215 M) (OkV M) := by
  delta FX96_writeSerial_215 BX96_writeSerial_215
  exact ⟨rfl, ⟨T.1, T.2⟩, (ext_r _)⟩
noncomputable def GX96_writeSerial_208 (a0 : Nat) (a1 : Int32) (a2 : Int32) (M : FM) : FM :=
  let x1 : Nat := (M.2.2 405 a0 0)
  let M2 : FM := fm_sI M 3 x1 a1.toNatClampNeg a2
  GX96_writeSerial_215 M2
def HX96_writeSerial_208 (a0 : Nat) (a1 : Int32) (a2 : Int32) (M : FM) : Prop := let x1 : Nat := (M.2.2 405 a0 0); (fm_in M x1 a1 = true ∧ True)
theorem gX96_writeSerial_208 (a0 : Nat) (a1 : Int32) (a2 : Int32) (M : FM) (T : Ty M) (n_a0 : fm_is M 99 99 a0 = true) (h : HX96_writeSerial_208 a0 a1 a2 M) : gd (FX96_writeSerial_208 a0 a1 a2 M) (GX96_writeSerial_208 a0 a1 a2 M) (OkV M) := by
  delta FX96_writeSerial_208 BX96_writeSerial_208
  refine gd_c n_a0 ?_
  have f0 := (tN_405 T.1 n_a0)
  refine gd_c ⟨f0, h.1⟩ ?_
  exact gd_tV (ext_dI (ext_r _)) (gX96_writeSerial_215  _ ⟨T.1, (tyb_s3 (t := 901) rfl T.2 f0)⟩  )
noncomputable def GX96_writeSerial_205 (M : FM) : FM :=
  GX96_writeSerial_215 M
theorem gX96_writeSerial_205 (M : FM) (T : Ty M) : gd (FX96_writeSerial_205 M) (GX96_writeSerial_205 M) (OkV M) := by
  delta FX96_writeSerial_205 BX96_writeSerial_205
  exact gd_tV (ext_r _) (gX96_writeSerial_215  _ ⟨T.1, T.2⟩  )
noncomputable def GX96_writeSerial_186 (s0 : Nat) (s1 : Int32) (M : FM) : FM :=
  let M1 : FM := fm_sI M 407 s0 0 s1
  GX96_writeSerial_215 M1
theorem gX96_writeSerial_186 (s0 : Nat) (s1 : Int32) (M : FM) (T : Ty M) (n_s0 : fm_is M 99 99 s0 = true) (z_s1 : s1 = 0 ∨ s1 = 1) : gd (FX96_writeSerial_186 s0 s1 M) (GX96_writeSerial_186 s0 s1 M) (OkV M) := by
  delta FX96_writeSerial_186 BX96_writeSerial_186
  refine gd_c n_s0 ?_
  refine gd_c z_s1 ?_
  exact gd_tV (ext_dI (ext_r _)) (gX96_writeSerial_215  _ ⟨T.1, (tyb_sIb (f := 407) rfl T.2 z_s1)⟩  )
noncomputable def GX96_writeSerial_170 (a0 : Nat) (a2 : Int32) (s0 : Nat) (s1 : Int32) (M : FM) : FM :=
  let M1 : FM := fm_sI M 411 s0 0 s1
  fi ((a2 &&& (Int32.ofInt 1)) = (Int32.ofInt 1)) (
    GX96_writeSerial_186 a0 (Int32.ofInt 1) M1) (
    GX96_writeSerial_186 a0 (Int32.ofInt 0) M1)
theorem gX96_writeSerial_170 (a0 : Nat) (a2 : Int32) (s0 : Nat) (s1 : Int32) (M : FM) (T : Ty M) (n_s0 : fm_is M 99 99 s0 = true) (n_a0 : fm_is M 99 99 a0 = true) : gd (FX96_writeSerial_170 a0 a2 s0 s1 M) (GX96_writeSerial_170 a0 a2 s0 s1 M) (OkV M) := by
  delta FX96_writeSerial_170 BX96_writeSerial_170
  refine gd_c n_s0 ?_
  refine gd_fi (fun c0_0 => ?_) (fun c0_0 => ?_)
  · exact gd_tV (ext_dI (ext_r _)) (gX96_writeSerial_186 _ _ _ ⟨T.1, (tyb_sI (f := 411) rfl T.2)⟩ n_a0 fz_1 )
  · exact gd_tV (ext_dI (ext_r _)) (gX96_writeSerial_186 _ _ _ ⟨T.1, (tyb_sI (f := 411) rfl T.2)⟩ n_a0 fz_0 )
noncomputable def GX96_writeSerial_162 (a0 : Nat) (a2 : Int32) (s0 : Nat) (M : FM) : FM :=
  GX96_writeSerial_170 a0 a2 s0 (Int32.ofInt 0) M
theorem gX96_writeSerial_162 (a0 : Nat) (a2 : Int32) (s0 : Nat) (M : FM) (T : Ty M) (n_s0 : fm_is M 99 99 s0 = true) (n_a0 : fm_is M 99 99 a0 = true) : gd (FX96_writeSerial_162 a0 a2 s0 M) (GX96_writeSerial_162 a0 a2 s0 M) (OkV M) := by
  delta FX96_writeSerial_162 BX96_writeSerial_162
  exact gd_tV (ext_r _) (gX96_writeSerial_170 _ _ _ _ _ ⟨T.1, T.2⟩ n_s0 n_a0 )
noncomputable def GX96_writeSerial_147 (a0 : Nat) (a2 : Int32) (s0 : Int32) (M : FM) : FM :=
  fi (s0 = 0) (
    fi (((a2 >>> ((Int32.ofInt 1) &&& 31)) &&& (Int32.ofInt 1)) = (Int32.ofInt 1)) (
      GX96_writeSerial_162 a0 a2 a0 M) (
      GX96_writeSerial_170 a0 a2 a0 (M.1 411 a0 0) M)) (
    GX96_writeSerial_162 a0 a2 a0 M)
theorem gX96_writeSerial_147 (a0 : Nat) (a2 : Int32) (s0 : Int32) (M : FM) (T : Ty M) (n_a0 : fm_is M 99 99 a0 = true) : gd (FX96_writeSerial_147 a0 a2 s0 M) (GX96_writeSerial_147 a0 a2 s0 M) (OkV M) := by
  delta FX96_writeSerial_147 BX96_writeSerial_147
  refine gd_fi (fun c0_0 => ?_) (fun c0_0 => ?_)
  · refine gd_fi (fun c1_0 => ?_) (fun c1_0 => ?_)
    · exact gd_tV (ext_r _) (gX96_writeSerial_162 _ _ _ _ ⟨T.1, T.2⟩ n_a0 n_a0 )
    · refine gd_c n_a0 ?_
      exact gd_tV (ext_r _) (gX96_writeSerial_170 _ _ _ _ _ ⟨T.1, T.2⟩ n_a0 n_a0 )
  · exact gd_tV (ext_r _) (gX96_writeSerial_162 _ _ _ _ ⟨T.1, T.2⟩ n_a0 n_a0 )
noncomputable def GX96_writeSerial_139 (a0 : Nat) (a2 : Int32) (s0 : Int32) (s1 : Int32) (M : FM) : FM :=
  fi (s0 = s1) (
    GX96_writeSerial_147 a0 a2 (Int32.ofInt 0) M) (
    GX96_writeSerial_147 a0 a2 (Int32.ofInt 1) M)
theorem gX96_writeSerial_139 (a0 : Nat) (a2 : Int32) (s0 : Int32) (s1 : Int32) (M : FM) (T : Ty M) (n_a0 : fm_is M 99 99 a0 = true) : gd (FX96_writeSerial_139 a0 a2 s0 s1 M) (GX96_writeSerial_139 a0 a2 s0 s1 M) (OkV M) := by
  delta FX96_writeSerial_139 BX96_writeSerial_139
  refine gd_fi (fun c0_0 => ?_) (fun c0_0 => ?_)
  · exact gd_tV (ext_r _) (gX96_writeSerial_147 _ _ _ _ ⟨T.1, T.2⟩ n_a0 )
  · exact gd_tV (ext_r _) (gX96_writeSerial_147 _ _ _ _ ⟨T.1, T.2⟩ n_a0 )
noncomputable def GX96_writeSerial_107 (a0 : Nat) (a2 : Int32) (s0 : Nat) (s1 : Int32) (M : FM) : FM :=
  let M1 : FM := fm_sI M 409 s0 0 s1
  let x2 : Nat := (M1.2.2 405 a0 0)
  let M3 : FM := fm_sI M1 3 x2 (Int32.ofInt 1).toNatClampNeg (a2 &&& (Int32.ofInt 15))
  GX96_writeSerial_215 M3
theorem gX96_writeSerial_107 (a0 : Nat) (a2 : Int32) (s0 : Nat) (s1 : Int32) (M : FM) (T : Ty M) (n_s0 : fm_is M 99 99 s0 = true) (z_s1 : s1 = 0 ∨ s1 = 1) (n_a0 : fm_is M 99 99 a0 = true) : gd (FX96_writeSerial_107 a0 a2 s0 s1 M) (GX96_writeSerial_107 a0 a2 s0 s1 M) (OkV M) := by
  delta FX96_writeSerial_107 BX96_writeSerial_107
  refine gd_c n_s0 ?_
  refine gd_c z_s1 ?_
  refine gd_c n_a0 ?_
  have f0 := (tN_405 T.1 n_a0)
  have f1 := (fm_inl (i := (Int32.ofInt 1)) (tL_405 T.1 n_a0) (by decide))
  refine gd_c ⟨f0, f1⟩ ?_
  exact gd_tV (ext_dI (ext_dI (ext_r _))) (gX96_writeSerial_215  _ ⟨T.1, (tyb_s3 (t := 901) rfl (tyb_sIb (f := 409) rfl T.2 z_s1) f0)⟩  )
noncomputable def GX96_writeSerial_106 (a0 : Nat) (a2 : Int32) (s0 : Nat) (M : FM) : FM :=
  GX96_writeSerial_107 a0 a2 s0 (Int32.ofInt 0) M
theorem gX96_writeSerial_106 (a0 : Nat) (a2 : Int32) (s0 : Nat) (M : FM) (T : Ty M) (n_s0 : fm_is M 99 99 s0 = true) (n_a0 : fm_is M 99 99 a0 = true) : gd (FX96_writeSerial_106 a0 a2 s0 M) (GX96_writeSerial_106 a0 a2 s0 M) (OkV M) := by
  delta FX96_writeSerial_106 BX96_writeSerial_106
  exact gd_tV (ext_r _) (gX96_writeSerial_107 _ _ _ _ _ ⟨T.1, T.2⟩ n_s0 fz_0 n_a0 )
noncomputable def GX96_writeSerial_102 (a0 : Nat) (a2 : Int32) (s0 : Nat) (M : FM) : FM :=
  GX96_writeSerial_107 a0 a2 s0 (Int32.ofInt 1) M
theorem gX96_writeSerial_102 (a0 : Nat) (a2 : Int32) (s0 : Nat) (M : FM) (T : Ty M) (n_s0 : fm_is M 99 99 s0 = true) (n_a0 : fm_is M 99 99 a0 = true) : gd (FX96_writeSerial_102 a0 a2 s0 M) (GX96_writeSerial_102 a0 a2 s0 M) (OkV M) := by
  delta FX96_writeSerial_102 BX96_writeSerial_102
  exact gd_tV (ext_r _) (gX96_writeSerial_107 _ _ _ _ _ ⟨T.1, T.2⟩ n_s0 fz_1 n_a0 )
noncomputable def GX96_writeSerial_23 (a0 : Nat) (a1 : Int32) (a2 : Int32) (M : FM) : FM :=
  fi (a1 = (Int32.ofInt 0)) (
    let M1 : FM := GX96_send a0 a2 M
    GX96_writeSerial_215 M1) (
    fi (a1 = (Int32.ofInt 1)) (
      fi ((M.1 409 a0 0) = 0) (
        let r2 : Int32 × FM := GX96_hasBit a0 (Int32.ofInt 1) (Int32.ofInt 1) M
        fi (r2.1 = 0) (
          fi (((a2 >>> ((Int32.ofInt 1) &&& 31)) &&& (Int32.ofInt 1)) = (Int32.ofInt 1)) (
            GX96_writeSerial_102 a0 a2 a0 r2.2) (
            GX96_writeSerial_106 a0 a2 a0 r2.2)) (
          GX96_writeSerial_106 a0 a2 a0 r2.2)) (
        GX96_writeSerial_102 a0 a2 a0 M)) (
      fi (a1 = (Int32.ofInt 2)) (
        fi ((a2 &&& (Int32.ofInt 1)) = (Int32.ofInt 1)) (
          GX96_writeSerial_139 a0 a2 (M.1 407 a0 0) (Int32.ofInt 1) M) (
          GX96_writeSerial_139 a0 a2 (M.1 407 a0 0) (Int32.ofInt 0) M)) (
        fi (a1 = (Int32.ofInt 3)) (
          GX96_writeSerial_208 a0 a1 a2 M) (
          fi (a1 = (Int32.ofInt 4)) (
            let x3 : Nat := (M.2.2 405 a0 0)
            let M4 : FM := fm_sI M 3 x3 (Int32.ofInt 4).toNatClampNeg (a2 &&& (Int32.ofInt 31))
            GX96_writeSerial_215 M4) (
            fi (a1 = (Int32.ofInt 5)) (
              GX96_writeSerial_205 M) (
              fi (a1 = (Int32.ofInt 6)) (
                GX96_writeSerial_205 M) (
                GX96_writeSerial_208 a0 a1 a2 M)))))))
def HX96_writeSerial_23 (a0 : Nat) (a1 : Int32) (a2 : Int32) (M : FM) : Prop := ((a1 = (Int32.ofInt 0) → (HX96_send a0 a2 M ∧ True)) ∧ (¬ (a1 = (Int32.ofInt 0)) → ((a1 = (Int32.ofInt 1) → (((M.1 409 a0 0) = 0 → (HX96_hasBit a0 (Int32.ofInt 1) (Int32.ofInt 1) M ∧ True)) ∧ (¬ ((M.1 409 a0 0) = 0) → True))) ∧ (¬ (a1 = (Int32.ofInt 1)) → ((a1 = (Int32.ofInt 2) → True) ∧ (¬ (a1 = (Int32.ofInt 2)) → ((a1 = (Int32.ofInt 3) → HX96_writeSerial_208 a0 a1 a2 M) ∧ (¬ (a1 = (Int32.ofInt 3)) → ((a1 = (Int32.ofInt 4) → True) ∧ (¬ (a1 = (Int32.ofInt 4)) → ((a1 = (Int32.ofInt 5) → True) ∧ (¬ (a1 = (Int32.ofInt 5)) → ((a1 = (Int32.ofInt 6) → True) ∧ (¬ (a1 = (Int32.ofInt 6)) → HX96_writeSerial_208 a0 a1 a2 M))))))))))))))
theorem gX96_writeSerial_23 (a0 : Nat) (a1 : Int32) (a2 : Int32) (M : FM) (T : Ty M) (n_a0 : fm_is M 99 99 a0 = true) (h : HX96_writeSerial_23 a0 a1 a2 M) : gd (FX96_writeSerial_23 a0 a1 a2 M) (GX96_writeSerial_23 a0 a1 a2 M) (OkV M) := by
  delta FX96_writeSerial_23 BX96_writeSerial_23
  refine gd_fi (fun c0_0 => ?_) (fun c0_0 => ?_)
  · refine gd_c n_a0 ?_
    refine gd_b (gX96_send _ _ _ ⟨T.1, T.2⟩ n_a0 (h.1 c0_0).1) (fun K1 => ?_)
    exact gd_tV K1.2 (gX96_writeSerial_215  _ ⟨K1.1.1, K1.1.2⟩  )
  · refine gd_fi (fun c2_1 => ?_) (fun c2_1 => ?_)
    · refine gd_c n_a0 ?_
      refine gd_fi (fun c3_0 => ?_) (fun c3_0 => ?_)
      · refine gd_c n_a0 ?_
        refine gd_b (gX96_hasBit _ _ _ _ ⟨T.1, T.2⟩ n_a0 (((h.2 c0_0).1 c2_1).1 c3_0).1) (fun K4 => ?_)
        refine gd_fi (fun c5_0 => ?_) (fun c5_0 => ?_)
        · refine gd_fi (fun c6_0 => ?_) (fun c6_0 => ?_)
          · have f7 := (ext_is K4.2.1 (Nat.zero_lt_succ _) n_a0)
            have f8 := (ext_is K4.2.1 (Nat.zero_lt_succ _) n_a0)
            exact gd_tV K4.2.1 (gX96_writeSerial_102 _ _ _ _ ⟨K4.1.1, K4.1.2⟩ f7 f8 )
          · have f9 := (ext_is K4.2.1 (Nat.zero_lt_succ _) n_a0)
            have f10 := (ext_is K4.2.1 (Nat.zero_lt_succ _) n_a0)
            exact gd_tV K4.2.1 (gX96_writeSerial_106 _ _ _ _ ⟨K4.1.1, K4.1.2⟩ f9 f10 )
        · have f11 := (ext_is K4.2.1 (Nat.zero_lt_succ _) n_a0)
          have f12 := (ext_is K4.2.1 (Nat.zero_lt_succ _) n_a0)
          exact gd_tV K4.2.1 (gX96_writeSerial_106 _ _ _ _ ⟨K4.1.1, K4.1.2⟩ f11 f12 )
      · exact gd_tV (ext_r _) (gX96_writeSerial_102 _ _ _ _ ⟨T.1, T.2⟩ n_a0 n_a0 )
    · refine gd_fi (fun c13_2 => ?_) (fun c13_2 => ?_)
      · refine gd_c n_a0 ?_
        refine gd_fi (fun c14_0 => ?_) (fun c14_0 => ?_)
        · exact gd_tV (ext_r _) (gX96_writeSerial_139 _ _ _ _ _ ⟨T.1, T.2⟩ n_a0 )
        · exact gd_tV (ext_r _) (gX96_writeSerial_139 _ _ _ _ _ ⟨T.1, T.2⟩ n_a0 )
      · refine gd_fi (fun c15_3 => ?_) (fun c15_3 => ?_)
        · exact gd_tV (ext_r _) (gX96_writeSerial_208 _ _ _ _ ⟨T.1, T.2⟩ n_a0 ((((h.2 c0_0).2 c2_1).2 c13_2).1 c15_3))
        · refine gd_fi (fun c16_4 => ?_) (fun c16_4 => ?_)
          · refine gd_c n_a0 ?_
            have f17 := (tN_405 T.1 n_a0)
            have f18 := (fm_inl (i := (Int32.ofInt 4)) (tL_405 T.1 n_a0) (by decide))
            refine gd_c ⟨f17, f18⟩ ?_
            exact gd_tV (ext_dI (ext_r _)) (gX96_writeSerial_215  _ ⟨T.1, (tyb_s3 (t := 901) rfl T.2 f17)⟩  )
          · refine gd_fi (fun c19_5 => ?_) (fun c19_5 => ?_)
            · exact gd_tV (ext_r _) (gX96_writeSerial_205  _ ⟨T.1, T.2⟩  )
            · refine gd_fi (fun c20_6 => ?_) (fun c20_6 => ?_)
              · exact gd_tV (ext_r _) (gX96_writeSerial_205  _ ⟨T.1, T.2⟩  )
              · exact gd_tV (ext_r _) (gX96_writeSerial_208 _ _ _ _ ⟨T.1, T.2⟩ n_a0 (((((((h.2 c0_0).2 c2_1).2 c13_2).2 c15_3).2 c16_4).2 c19_5).2 c20_6))
noncomputable def GX96_writeSerial_0 (a0 : Nat) (a1 : Int32) (a2 : Int32) (M : FM) : FM :=
  fi ((Int32.ofInt 2) ≤ a1) (
    GX96_writeSerial_23 a0 a1 a2 M) (
    let r1 : Int32 × FM := GX96_hasBit a0 (Int32.ofInt 3) (Int32.ofInt 7) M
    fi (r1.1 = 0) (
      GX96_writeSerial_23 a0 a1 a2 r1.2) (
      let x2 : Nat := (r1.2.2.2 406 a0 0)
      let M3 : FM := fm_sI r1.2 3 x2 a1.toNatClampNeg a2
      M3))
def HX96_writeSerial_0 (a0 : Nat) (a1 : Int32) (a2 : Int32) (M : FM) : Prop := (((Int32.ofInt 2) ≤ a1 → HX96_writeSerial_23 a0 a1 a2 M) ∧ (¬ ((Int32.ofInt 2) ≤ a1) → (HX96_hasBit a0 (Int32.ofInt 3) (Int32.ofInt 7) M ∧ let r1 : Int32 × FM := GX96_hasBit a0 (Int32.ofInt 3) (Int32.ofInt 7) M; ((r1.1 = 0 → HX96_writeSerial_23 a0 a1 a2 r1.2) ∧ (¬ (r1.1 = 0) → let x2 : Nat := (r1.2.2.2 406 a0 0); (fm_in r1.2 x2 a1 = true ∧ True))))))
theorem gX96_writeSerial_0 (a0 : Nat) (a1 : Int32) (a2 : Int32) (M : FM) (T : Ty M) (n_a0 : fm_is M 99 99 a0 = true) (h : HX96_writeSerial_0 a0 a1 a2 M) : gd (FX96_writeSerial_0 a0 a1 a2 M) (GX96_writeSerial_0 a0 a1 a2 M) (OkV M) := by
  delta FX96_writeSerial_0 BX96_writeSerial_0
  refine gd_fi (fun c0_0 => ?_) (fun c0_0 => ?_)
  · exact gd_tV (ext_r _) (gX96_writeSerial_23 _ _ _ _ ⟨T.1, T.2⟩ n_a0 (h.1 c0_0))
  · refine gd_c n_a0 ?_
    refine gd_b (gX96_hasBit _ _ _ _ ⟨T.1, T.2⟩ n_a0 (h.2 c0_0).1) (fun K1 => ?_)
    refine gd_fi (fun c2_0 => ?_) (fun c2_0 => ?_)
    · have f3 := (ext_is K1.2.1 (Nat.zero_lt_succ _) n_a0)
      exact gd_tV K1.2.1 (gX96_writeSerial_23 _ _ _ _ ⟨K1.1.1, K1.1.2⟩ f3 ((h.2 c0_0).2.1 c2_0))
    · have f4 := (ext_is K1.2.1 (Nat.zero_lt_succ _) n_a0)
      refine gd_c f4 ?_
      have f5 := (tN_406 K1.1.1 (ext_is K1.2.1 (Nat.zero_lt_succ _) n_a0))
      have f6 := ((h.2 c0_0).2.2 c2_0).1
      refine gd_c ⟨f5, f6⟩ ?_
      exact ⟨rfl, ⟨K1.1.1, (tyb_s3 (t := 901) rfl K1.1.2 f5)⟩, (ext_tr K1.2.1 (ext_dI (ext_r _)))⟩
noncomputable def GX96_writeSerial (a0 : Nat) (a1 : Int32) (a2 : Int32) (M : FM) : FM := GX96_writeSerial_0 a0 a1 a2 M
def HX96_writeSerial (a0 : Nat) (a1 : Int32) (a2 : Int32) (M : FM) : Prop := HX96_writeSerial_0 a0 a1 a2 M
theorem gX96_writeSerial (a0 : Nat) (a1 : Int32) (a2 : Int32) (M : FM) (T : Ty M) (n_a0 : fm_is M 99 99 a0 = true) (h : HX96_writeSerial a0 a1 a2 M) : gd (FX96_writeSerial a0 a1 a2 M) (GX96_writeSerial a0 a1 a2 M) (OkV M) := gX96_writeSerial_0 a0 a1 a2 M T n_a0 h
noncomputable def GX96_write_96 (a0 : Nat) (M : FM) : FM :=
  let M1 : FM := GX96_settle a0 M
  M1
def HX96_write_96 (a0 : Nat) (M : FM) : Prop := (HX96_settle a0 M ∧ True)
theorem gX96_write_96 (a0 : Nat) (M : FM) (T : Ty M) (n_a0 : fm_is M 99 99 a0 = true) (h : HX96_write_96 a0 M) : gd (FX96_write_96 fN a0 M) (GX96_write_96 a0 M) (OkV M) := by
  delta FX96_write_96 BX96_write_96
  refine gd_c n_a0 ?_
  refine gd_b (gX96_settle _ _ h.1) (fun K0 => ?_)
  exact ⟨rfl, ⟨K0.1.1, K0.1.2⟩, K0.2⟩
noncomputable def GX96_write_64 (a0 : Nat) (a1 : Int32) (a2 : Int64) (a4 : Int32) (a5 : Int64) (M : FM) : FM :=
  fi (a1 = (Int32.ofInt 2)) (
    fi (a4 = (Int32.ofInt 1)) (
      fi (0 ≤ (lg_cmp a2 (Int64.ofInt 8))) (
        GX96_write_96 a0 M) (
        let M1 : FM := GX96_writeSerial a0 a2.toInt32 ((a5 &&& (Int64.ofInt 255)).toInt32) M
        GX96_write_96 a0 M1)) (
      GX96_write_96 a0 M)) (
    GX96_write_96 a0 M)
def HX96_write_64 (a0 : Nat) (a1 : Int32) (a2 : Int64) (a4 : Int32) (a5 : Int64) (M : FM) : Prop := ((a1 = (Int32.ofInt 2) → ((a4 = (Int32.ofInt 1) → ((0 ≤ (lg_cmp a2 (Int64.ofInt 8)) → HX96_write_96 a0 M) ∧ (¬ (0 ≤ (lg_cmp a2 (Int64.ofInt 8))) → (HX96_writeSerial a0 a2.toInt32 ((a5 &&& (Int64.ofInt 255)).toInt32) M ∧ let M1 : FM := GX96_writeSerial a0 a2.toInt32 ((a5 &&& (Int64.ofInt 255)).toInt32) M; HX96_write_96 a0 M1)))) ∧ (¬ (a4 = (Int32.ofInt 1)) → HX96_write_96 a0 M))) ∧ (¬ (a1 = (Int32.ofInt 2)) → HX96_write_96 a0 M))
theorem gX96_write_64 (a0 : Nat) (a1 : Int32) (a2 : Int64) (a4 : Int32) (a5 : Int64) (M : FM) (T : Ty M) (n_a0 : fm_is M 99 99 a0 = true) (h : HX96_write_64 a0 a1 a2 a4 a5 M) : gd (FX96_write_64 fN a0 a1 a2 a4 a5 M) (GX96_write_64 a0 a1 a2 a4 a5 M) (OkV M) := by
  delta FX96_write_64 BX96_write_64
  refine gd_fi (fun c0_0 => ?_) (fun c0_0 => ?_)
  · refine gd_fi (fun c1_0 => ?_) (fun c1_0 => ?_)
    · refine gd_fi (fun c2_0 => ?_) (fun c2_0 => ?_)
      · exact gd_tV (ext_r _) (gX96_write_96 _ _ ⟨T.1, T.2⟩ n_a0 (((h.1 c0_0).1 c1_0).1 c2_0))
      · refine gd_c n_a0 ?_
        refine gd_b (gX96_writeSerial _ _ _ _ ⟨T.1, T.2⟩ n_a0 (((h.1 c0_0).1 c1_0).2 c2_0).1) (fun K3 => ?_)
        have f4 := (ext_is K3.2 (Nat.zero_lt_succ _) n_a0)
        exact gd_tV K3.2 (gX96_write_96 _ _ ⟨K3.1.1, K3.1.2⟩ f4 (((h.1 c0_0).1 c1_0).2 c2_0).2)
    · exact gd_tV (ext_r _) (gX96_write_96 _ _ ⟨T.1, T.2⟩ n_a0 ((h.1 c0_0).2 c1_0))
  · exact gd_tV (ext_r _) (gX96_write_96 _ _ ⟨T.1, T.2⟩ n_a0 (h.2 c0_0))
noncomputable def GX96_write_16 (a0 : Nat) (a1 : Int32) (a2 : Int64) (a4 : Int32) (a5 : Int64) (s0 : Nat) (s1 : Int32) (M : FM) : FM :=
  let M1 : FM := fm_sI M 394 s0 0 s1
  fi ((M1.1 394 a0 0) ≤ 0) (
    fi (a1 = 0) (
      let M2 : FM := GX96_writeTimer a0 a2 a4 a5 M1
      GX96_write_96 a0 M2) (
      fi (a1 = (Int32.ofInt 1)) (
        fi (a4 = (Int32.ofInt 4)) (
          let M3 : FM := GX96_writeController a0 a2 a5 M1
          GX96_write_96 a0 M3) (
          GX96_write_64 a0 a1 a2 a4 a5 M1)) (
        GX96_write_64 a0 a1 a2 a4 a5 M1))) (
    M1)
def HX96_write_16 (a0 : Nat) (a1 : Int32) (a2 : Int64) (a4 : Int32) (a5 : Int64) (s0 : Nat) (s1 : Int32) (M : FM) : Prop := let M1 : FM := fm_sI M 394 s0 0 s1; (((M1.1 394 a0 0) ≤ 0 → ((a1 = 0 → (HX96_writeTimer a0 a2 a4 a5 M1 ∧ let M2 : FM := GX96_writeTimer a0 a2 a4 a5 M1; HX96_write_96 a0 M2)) ∧ (¬ (a1 = 0) → ((a1 = (Int32.ofInt 1) → ((a4 = (Int32.ofInt 4) → (HX96_writeController a0 a2 a5 M1 ∧ let M3 : FM := GX96_writeController a0 a2 a5 M1; HX96_write_96 a0 M3)) ∧ (¬ (a4 = (Int32.ofInt 4)) → HX96_write_64 a0 a1 a2 a4 a5 M1))) ∧ (¬ (a1 = (Int32.ofInt 1)) → HX96_write_64 a0 a1 a2 a4 a5 M1))))) ∧ (¬ ((M1.1 394 a0 0) ≤ 0) → True))
theorem gX96_write_16 (a0 : Nat) (a1 : Int32) (a2 : Int64) (a4 : Int32) (a5 : Int64) (s0 : Nat) (s1 : Int32) (M : FM) (T : Ty M) (n_s0 : fm_is M 99 99 s0 = true) (n_a0 : fm_is M 99 99 a0 = true) (h : HX96_write_16 a0 a1 a2 a4 a5 s0 s1 M) : gd (FX96_write_16 fN a0 a1 a2 a4 a5 s0 s1 M) (GX96_write_16 a0 a1 a2 a4 a5 s0 s1 M) (OkV M) := by
  delta FX96_write_16 BX96_write_16
  refine gd_c n_s0 ?_
  refine gd_c n_a0 ?_
  refine gd_fi (fun c0_0 => ?_) (fun c0_0 => ?_)
  · refine gd_fi (fun c1_0 => ?_) (fun c1_0 => ?_)
    · refine gd_c n_a0 ?_
      refine gd_b (gX96_writeTimer _ _ _ _ _ ⟨T.1, (tyb_sI (f := 394) rfl T.2)⟩ n_a0 ((h.1 c0_0).1 c1_0).1) (fun K2 => ?_)
      have f3 := (ext_is K2.2 (Nat.zero_lt_succ _) n_a0)
      exact gd_tV (ext_dI K2.2) (gX96_write_96 _ _ ⟨K2.1.1, K2.1.2⟩ f3 ((h.1 c0_0).1 c1_0).2)
    · refine gd_fi (fun c4_0 => ?_) (fun c4_0 => ?_)
      · refine gd_fi (fun c5_0 => ?_) (fun c5_0 => ?_)
        · refine gd_c n_a0 ?_
          refine gd_b (gX96_writeController _ _ _ _ ⟨T.1, (tyb_sI (f := 394) rfl T.2)⟩ n_a0 ((((h.1 c0_0).2 c1_0).1 c4_0).1 c5_0).1) (fun K6 => ?_)
          have f7 := (ext_is K6.2 (Nat.zero_lt_succ _) n_a0)
          exact gd_tV (ext_dI K6.2) (gX96_write_96 _ _ ⟨K6.1.1, K6.1.2⟩ f7 ((((h.1 c0_0).2 c1_0).1 c4_0).1 c5_0).2)
        · exact gd_tV (ext_dI (ext_r _)) (gX96_write_64 _ _ _ _ _ _ ⟨T.1, (tyb_sI (f := 394) rfl T.2)⟩ n_a0 ((((h.1 c0_0).2 c1_0).1 c4_0).2 c5_0))
      · exact gd_tV (ext_dI (ext_r _)) (gX96_write_64 _ _ _ _ _ _ ⟨T.1, (tyb_sI (f := 394) rfl T.2)⟩ n_a0 (((h.1 c0_0).2 c1_0).2 c4_0))
  · exact ⟨rfl, ⟨T.1, (tyb_sI (f := 394) rfl T.2)⟩, (ext_dI (ext_r _))⟩
noncomputable def GX96_write_0 (a0 : Nat) (a1 : Int32) (a2 : Int64) (a4 : Int32) (a5 : Int64) (M : FM) : FM :=
  let r1 : Int32 × FM := GX96_isProper a1 a2 a4 M
  fi (r1.1 = 0) (
    GX96_write_16 a0 a1 a2 a4 a5 a0 (Int32.ofInt 1) r1.2) (
    GX96_write_16 a0 a1 a2 a4 a5 a0 (Int32.ofInt 0) r1.2)
def HX96_write_0 (a0 : Nat) (a1 : Int32) (a2 : Int64) (a4 : Int32) (a5 : Int64) (M : FM) : Prop := let r1 : Int32 × FM := GX96_isProper a1 a2 a4 M; ((r1.1 = 0 → HX96_write_16 a0 a1 a2 a4 a5 a0 (Int32.ofInt 1) r1.2) ∧ (¬ (r1.1 = 0) → HX96_write_16 a0 a1 a2 a4 a5 a0 (Int32.ofInt 0) r1.2))
theorem gX96_write_0 (a0 : Nat) (a1 : Int32) (a2 : Int64) (a4 : Int32) (a5 : Int64) (M : FM) (T : Ty M) (n_a0 : fm_is M 99 99 a0 = true) (h : HX96_write_0 a0 a1 a2 a4 a5 M) : gd (FX96_write_0 fN a0 a1 a2 a4 a5 M) (GX96_write_0 a0 a1 a2 a4 a5 M) (OkV M) := by
  delta FX96_write_0 BX96_write_0
  refine gd_b (gX96_isProper _ _ _ _ ⟨T.1, T.2⟩  ) (fun K0 => ?_)
  refine gd_fi (fun c1_0 => ?_) (fun c1_0 => ?_)
  · have f2 := (ext_is K0.2.1 (Nat.zero_lt_succ _) n_a0)
    have f3 := (ext_is K0.2.1 (Nat.zero_lt_succ _) n_a0)
    exact gd_tV K0.2.1 (gX96_write_16 _ _ _ _ _ _ _ _ ⟨K0.1.1, K0.1.2⟩ f2 f3 (h.1 c1_0))
  · have f4 := (ext_is K0.2.1 (Nat.zero_lt_succ _) n_a0)
    have f5 := (ext_is K0.2.1 (Nat.zero_lt_succ _) n_a0)
    exact gd_tV K0.2.1 (gX96_write_16 _ _ _ _ _ _ _ _ ⟨K0.1.1, K0.1.2⟩ f4 f5 (h.2 c1_0))
noncomputable def GX96_write (a0 : Nat) (a1 : Int32) (a2 : Int64) (a4 : Int32) (a5 : Int64) (M : FM) : FM := GX96_write_0 a0 a1 a2 a4 a5 M
def HX96_write (a0 : Nat) (a1 : Int32) (a2 : Int64) (a4 : Int32) (a5 : Int64) (M : FM) : Prop := HX96_write_0 a0 a1 a2 a4 a5 M
theorem gX96_write (a0 : Nat) (a1 : Int32) (a2 : Int64) (a4 : Int32) (a5 : Int64) (M : FM) (T : Ty M) (n_a0 : fm_is M 99 99 a0 = true) (h : HX96_write a0 a1 a2 a4 a5 M) : gd (FX96_write fN a0 a1 a2 a4 a5 M) (GX96_write a0 a1 a2 a4 a5 M) (OkV M) := gX96_write_0 a0 a1 a2 a4 a5 M T n_a0 h
noncomputable def GX95_noOffset_38 (s0 : Int32) (M : FM) : Int32 × FM :=
  (s0, M)
theorem gX95_noOffset_38 (s0 : Int32) (M : FM) (T : Ty M) (z_s0 : s0 = 0 ∨ s0 = 1) : gd (FX95_noOffset_38 s0 M) (GX95_noOffset_38 s0 M) (OkZ M) := by
  delta FX95_noOffset_38 BX95_noOffset_38
  exact gd_z z_s0 ⟨T.1, T.2⟩ (ext_r _) rfl
noncomputable def GX95_noOffset_23 (a0 : Nat) (s0 : Nat) (s1 : Int32) (M : FM) : Int32 × FM :=
  let M1 : FM := fm_sI M 324 s0 0 s1
  fi ((M1.1 324 a0 0) ≤ 0) (
    GX95_noOffset_38 (Int32.ofInt 0) M1) (
    GX95_noOffset_38 (Int32.ofInt 1) M1)
theorem gX95_noOffset_23 (a0 : Nat) (s0 : Nat) (s1 : Int32) (M : FM) (T : Ty M) (n_s0 : fm_is M 93 93 s0 = true) (n_a0 : fm_is M 93 93 a0 = true) : gd (FX95_noOffset_23 a0 s0 s1 M) (GX95_noOffset_23 a0 s0 s1 M) (OkZ M) := by
  delta FX95_noOffset_23 BX95_noOffset_23
  refine gd_c n_s0 ?_
  refine gd_c n_a0 ?_
  refine gd_fi (fun c0_0 => ?_) (fun c0_0 => ?_)
  · exact gd_tZ (ext_dI (ext_r _)) (gX95_noOffset_38 _ _ ⟨T.1, (tyb_sI (f := 324) rfl T.2)⟩ fz_0 )
  · exact gd_tZ (ext_dI (ext_r _)) (gX95_noOffset_38 _ _ ⟨T.1, (tyb_sI (f := 324) rfl T.2)⟩ fz_1 )
noncomputable def GX95_noOffset_18 (a0 : Nat) (s0 : Nat) (M : FM) : Int32 × FM :=
  GX95_noOffset_23 a0 s0 (Int32.ofInt 1) M
theorem gX95_noOffset_18 (a0 : Nat) (s0 : Nat) (M : FM) (T : Ty M) (n_s0 : fm_is M 93 93 s0 = true) (n_a0 : fm_is M 93 93 a0 = true) : gd (FX95_noOffset_18 a0 s0 M) (GX95_noOffset_18 a0 s0 M) (OkZ M) := by
  delta FX95_noOffset_18 BX95_noOffset_18
  exact gd_tZ (ext_r _) (gX95_noOffset_23 _ _ _ _ ⟨T.1, T.2⟩ n_s0 n_a0 )
noncomputable def GX95_noOffset_0 (a0 : Nat) (a1 : Int32) (M : FM) : Int32 × FM :=
  fi (a1 < 0) (
    GX95_noOffset_18 a0 a0 M) (
    fi ((Int32.ofInt 508) < a1) (
      GX95_noOffset_18 a0 a0 M) (
      fi ((a1 - a1 / (Int32.ofInt 4) * (Int32.ofInt 4)) = 0) (
        GX95_noOffset_23 a0 a0 (Int32.ofInt 0) M) (
        GX95_noOffset_18 a0 a0 M)))
theorem gX95_noOffset_0 (a0 : Nat) (a1 : Int32) (M : FM) (T : Ty M) (n_a0 : fm_is M 93 93 a0 = true) : gd (FX95_noOffset_0 a0 a1 M) (GX95_noOffset_0 a0 a1 M) (OkZ M) := by
  delta FX95_noOffset_0 BX95_noOffset_0
  refine gd_fi (fun c0_0 => ?_) (fun c0_0 => ?_)
  · exact gd_tZ (ext_r _) (gX95_noOffset_18 _ _ _ ⟨T.1, T.2⟩ n_a0 n_a0 )
  · refine gd_fi (fun c1_0 => ?_) (fun c1_0 => ?_)
    · exact gd_tZ (ext_r _) (gX95_noOffset_18 _ _ _ ⟨T.1, T.2⟩ n_a0 n_a0 )
    · refine gd_n (by decide) ?_
      refine gd_fi (fun c2_0 => ?_) (fun c2_0 => ?_)
      · exact gd_tZ (ext_r _) (gX95_noOffset_23 _ _ _ _ ⟨T.1, T.2⟩ n_a0 n_a0 )
      · exact gd_tZ (ext_r _) (gX95_noOffset_18 _ _ _ ⟨T.1, T.2⟩ n_a0 n_a0 )
noncomputable def GX95_noOffset (a0 : Nat) (a1 : Int32) (M : FM) : Int32 × FM := GX95_noOffset_0 a0 a1 M
theorem gX95_noOffset (a0 : Nat) (a1 : Int32) (M : FM) (T : Ty M) (n_a0 : fm_is M 93 93 a0 = true) : gd (FX95_noOffset a0 a1 M) (GX95_noOffset a0 a1 M) (OkZ M) := gX95_noOffset_0 a0 a1 M T n_a0 
noncomputable def GX95_setQueue_161 (M : FM) : FM :=
  M
theorem gX95_setQueue_161 (M : FM) (T : Ty M) : gd (FX95_setQueue_161 M) (GX95_setQueue_161 M) (OkV M) := by
  delta FX95_setQueue_161 BX95_setQueue_161
  exact ⟨rfl, ⟨T.1, T.2⟩, (ext_r _)⟩
noncomputable def GX95_setQueue_160 (s0 : Nat) (s1 : Int32) (s2 : Int64) (M : FM) : FM :=
  let M1 : FM := fm_sL M 3 s0 s1.toNatClampNeg s2
  GX95_setQueue_161 M1
def HX95_setQueue_160 (s0 : Nat) (s1 : Int32) (s2 : Int64) (M : FM) : Prop := (fm_in M s0 s1 = true ∧ True)
theorem gX95_setQueue_160 (s0 : Nat) (s1 : Int32) (s2 : Int64) (M : FM) (T : Ty M) (n_s0 : fm_is M 902 902 s0 = true) (h : HX95_setQueue_160 s0 s1 s2 M) : gd (FX95_setQueue_160 s0 s1 s2 M) (GX95_setQueue_160 s0 s1 s2 M) (OkV M) := by
  delta FX95_setQueue_160 BX95_setQueue_160
  refine gd_c ⟨n_s0, h.1⟩ ?_
  exact gd_tV (ext_dL (ext_r _)) (gX95_setQueue_161  _ ⟨T.1, T.2⟩  )
noncomputable def GX95_setQueue_87 (s0 : Nat) (s1 : Int32) (M : FM) : FM :=
  let M1 : FM := fm_sI M 331 s0 0 s1
  GX95_setQueue_161 M1
theorem gX95_setQueue_87 (s0 : Nat) (s1 : Int32) (M : FM) (T : Ty M) (n_s0 : fm_is M 93 93 s0 = true) (z_s1 : s1 = 0 ∨ s1 = 1) : gd (FX95_setQueue_87 s0 s1 M) (GX95_setQueue_87 s0 s1 M) (OkV M) := by
  delta FX95_setQueue_87 BX95_setQueue_87
  refine gd_c n_s0 ?_
  refine gd_c z_s1 ?_
  exact gd_tV (ext_dI (ext_r _)) (gX95_setQueue_161  _ ⟨T.1, (tyb_sIb (f := 331) rfl T.2 z_s1)⟩  )
noncomputable def GX95_setQueue_63 (s0 : Nat) (s1 : Int32) (M : FM) : FM :=
  let M1 : FM := fm_sI M 330 s0 0 s1
  GX95_setQueue_161 M1
theorem gX95_setQueue_63 (s0 : Nat) (s1 : Int32) (M : FM) (T : Ty M) (n_s0 : fm_is M 93 93 s0 = true) : gd (FX95_setQueue_63 s0 s1 M) (GX95_setQueue_63 s0 s1 M) (OkV M) := by
  delta FX95_setQueue_63 BX95_setQueue_63
  refine gd_c n_s0 ?_
  exact gd_tV (ext_dI (ext_r _)) (gX95_setQueue_161  _ ⟨T.1, (tyb_sI (f := 330) rfl T.2)⟩  )
noncomputable def GX95_setQueue_55 (a2 : Int32) (s0 : Nat) (M : FM) : FM :=
  GX95_setQueue_63 s0 a2 M
theorem gX95_setQueue_55 (a2 : Int32) (s0 : Nat) (M : FM) (T : Ty M) (n_s0 : fm_is M 93 93 s0 = true) : gd (FX95_setQueue_55 a2 s0 M) (GX95_setQueue_55 a2 s0 M) (OkV M) := by
  delta FX95_setQueue_55 BX95_setQueue_55
  exact gd_tV (ext_r _) (gX95_setQueue_63 _ _ _ ⟨T.1, T.2⟩ n_s0 )
noncomputable def GX95_setQueue_21 (a0 : Nat) (a1 : Int32) (a2 : Int32) (M : FM) : FM :=
  fi (a1 = (Int32.ofInt 56)) (
    fi (a2 = (Int32.ofInt 1)) (
      GX95_setQueue_55 a2 a0 M) (
      fi (a2 = (Int32.ofInt 2)) (
        GX95_setQueue_55 a2 a0 M) (
        fi (a2 = (Int32.ofInt 4)) (
          GX95_setQueue_55 a2 a0 M) (
          fi (a2 = (Int32.ofInt 8)) (
            GX95_setQueue_55 a2 a0 M) (
            fi (a2 = (Int32.ofInt 16)) (
              GX95_setQueue_55 a2 a0 M) (
              GX95_setQueue_63 a0 (M.1 330 a0 0) M)))))) (
    fi (a1 = (Int32.ofInt 68)) (
      fi ((a2 - a2 / (Int32.ofInt 2) * (Int32.ofInt 2)) = 0) (
        GX95_setQueue_87 a0 (Int32.ofInt 0) M) (
        GX95_setQueue_87 a0 (Int32.ofInt 1) M)) (
      let x1 : Int32 := ((a1 - (Int32.ofInt 128)) / (Int32.ofInt 16))
      let x2 : Nat := (M.2.2 334 a0 0)
      let x3 : Int64 := ((M.2.1 3 x2 x1.toNatClampNeg) &&& (Int64.ofInt 4294967295))
      let x4 : Nat := (M.2.2 334 a0 0)
      let x5 : Int64 := ((M.2.1 3 x4 x1.toNatClampNeg).toUInt64 >>> ((Int32.ofInt 32).toInt64.toUInt64 &&& Int64.toUInt64 63)).toInt64
      fi ((a1 - a1 / (Int32.ofInt 8) * (Int32.ofInt 8)) = 0) (
        GX95_setQueue_160 (M.2.2 334 a0 0) x1 ((x5 <<< ((Int32.ofInt 32).toInt64 &&& 63)) ||| (a2.toInt64 &&& (Int64.ofInt 4294967295))) M) (
        GX95_setQueue_160 (M.2.2 334 a0 0) x1 ((a2.toInt64 <<< ((Int32.ofInt 32).toInt64 &&& 63)) ||| x3) M)))
def HX95_setQueue_21 (a0 : Nat) (a1 : Int32) (a2 : Int32) (M : FM) : Prop := ((a1 = (Int32.ofInt 56) → True) ∧ (¬ (a1 = (Int32.ofInt 56)) → ((a1 = (Int32.ofInt 68) → True) ∧ (¬ (a1 = (Int32.ofInt 68)) → let x1 : Int32 := ((a1 - (Int32.ofInt 128)) / (Int32.ofInt 16)); let x2 : Nat := (M.2.2 334 a0 0); (fm_in M x2 x1 = true ∧ let x3 : Int64 := ((M.2.1 3 x2 x1.toNatClampNeg) &&& (Int64.ofInt 4294967295)); let x4 : Nat := (M.2.2 334 a0 0); (fm_in M x4 x1 = true ∧ let x5 : Int64 := ((M.2.1 3 x4 x1.toNatClampNeg).toUInt64 >>> ((Int32.ofInt 32).toInt64.toUInt64 &&& Int64.toUInt64 63)).toInt64; (((a1 - a1 / (Int32.ofInt 8) * (Int32.ofInt 8)) = 0 → HX95_setQueue_160 (M.2.2 334 a0 0) x1 ((x5 <<< ((Int32.ofInt 32).toInt64 &&& 63)) ||| (a2.toInt64 &&& (Int64.ofInt 4294967295))) M) ∧ (¬ ((a1 - a1 / (Int32.ofInt 8) * (Int32.ofInt 8)) = 0) → HX95_setQueue_160 (M.2.2 334 a0 0) x1 ((a2.toInt64 <<< ((Int32.ofInt 32).toInt64 &&& 63)) ||| x3) M))))))))
theorem gX95_setQueue_21 (a0 : Nat) (a1 : Int32) (a2 : Int32) (M : FM) (T : Ty M) (n_a0 : fm_is M 93 93 a0 = true) (h : HX95_setQueue_21 a0 a1 a2 M) : gd (FX95_setQueue_21 a0 a1 a2 M) (GX95_setQueue_21 a0 a1 a2 M) (OkV M) := by
  delta FX95_setQueue_21 BX95_setQueue_21
  refine gd_fi (fun c0_0 => ?_) (fun c0_0 => ?_)
  · refine gd_fi (fun c1_0 => ?_) (fun c1_0 => ?_)
    · exact gd_tV (ext_r _) (gX95_setQueue_55 _ _ _ ⟨T.1, T.2⟩ n_a0 )
    · refine gd_fi (fun c2_0 => ?_) (fun c2_0 => ?_)
      · exact gd_tV (ext_r _) (gX95_setQueue_55 _ _ _ ⟨T.1, T.2⟩ n_a0 )
      · refine gd_fi (fun c3_0 => ?_) (fun c3_0 => ?_)
        · exact gd_tV (ext_r _) (gX95_setQueue_55 _ _ _ ⟨T.1, T.2⟩ n_a0 )
        · refine gd_fi (fun c4_0 => ?_) (fun c4_0 => ?_)
          · exact gd_tV (ext_r _) (gX95_setQueue_55 _ _ _ ⟨T.1, T.2⟩ n_a0 )
          · refine gd_fi (fun c5_0 => ?_) (fun c5_0 => ?_)
            · exact gd_tV (ext_r _) (gX95_setQueue_55 _ _ _ ⟨T.1, T.2⟩ n_a0 )
            · refine gd_c n_a0 ?_
              exact gd_tV (ext_r _) (gX95_setQueue_63 _ _ _ ⟨T.1, T.2⟩ n_a0 )
  · refine gd_fi (fun c6_0 => ?_) (fun c6_0 => ?_)
    · refine gd_n (by decide) ?_
      refine gd_fi (fun c7_0 => ?_) (fun c7_0 => ?_)
      · exact gd_tV (ext_r _) (gX95_setQueue_87 _ _ _ ⟨T.1, T.2⟩ n_a0 fz_0 )
      · exact gd_tV (ext_r _) (gX95_setQueue_87 _ _ _ ⟨T.1, T.2⟩ n_a0 fz_1 )
    · refine gd_n (by decide) ?_
      refine gd_c n_a0 ?_
      have f13 := (tN_334 T.1 n_a0)
      have f14 := ((h.2 c0_0).2 c6_0).1
      refine gd_c ⟨f13, f14⟩ ?_
      refine gd_c n_a0 ?_
      have f11 := (tN_334 T.1 n_a0)
      have f12 := ((h.2 c0_0).2 c6_0).2.1
      refine gd_c ⟨f11, f12⟩ ?_
      refine gd_c n_a0 ?_
      refine gd_n (by decide) ?_
      refine gd_fi (fun c8_0 => ?_) (fun c8_0 => ?_)
      · have f9 := (tN_334 T.1 n_a0)
        exact gd_tV (ext_r _) (gX95_setQueue_160 _ _ _ _ ⟨T.1, T.2⟩ f9 (((h.2 c0_0).2 c6_0).2.2.1 c8_0))
      · have f10 := (tN_334 T.1 n_a0)
        exact gd_tV (ext_r _) (gX95_setQueue_160 _ _ _ _ ⟨T.1, T.2⟩ f10 (((h.2 c0_0).2 c6_0).2.2.2 c8_0))
noncomputable def GX95_setQueue_20 (M : FM) : FM :=
  M
theorem gX95_setQueue_20 (M : FM) (T : Ty M) : gd (FX95_setQueue_20 M) (GX95_setQueue_20 M) (OkV M) := by
  delta FX95_setQueue_20 BX95_setQueue_20
  exact ⟨rfl, ⟨T.1, T.2⟩, (ext_r _)⟩
noncomputable def GX95_setQueue_0 (a0 : Nat) (a1 : Int32) (a2 : Int32) (M : FM) : FM :=
  fi ((M.1 328 a0 0) = 0) (
    fi ((M.1 331 a0 0) = 0) (
      GX95_setQueue_21 a0 a1 a2 M) (
      fi (a1 = (Int32.ofInt 68)) (
        GX95_setQueue_21 a0 a1 a2 M) (
        GX95_setQueue_20 M))) (
    GX95_setQueue_20 M)
def HX95_setQueue_0 (a0 : Nat) (a1 : Int32) (a2 : Int32) (M : FM) : Prop := (((M.1 328 a0 0) = 0 → (((M.1 331 a0 0) = 0 → HX95_setQueue_21 a0 a1 a2 M) ∧ (¬ ((M.1 331 a0 0) = 0) → ((a1 = (Int32.ofInt 68) → HX95_setQueue_21 a0 a1 a2 M) ∧ (¬ (a1 = (Int32.ofInt 68)) → True))))) ∧ (¬ ((M.1 328 a0 0) = 0) → True))
theorem gX95_setQueue_0 (a0 : Nat) (a1 : Int32) (a2 : Int32) (M : FM) (T : Ty M) (n_a0 : fm_is M 93 93 a0 = true) (h : HX95_setQueue_0 a0 a1 a2 M) : gd (FX95_setQueue_0 a0 a1 a2 M) (GX95_setQueue_0 a0 a1 a2 M) (OkV M) := by
  delta FX95_setQueue_0 BX95_setQueue_0
  refine gd_c n_a0 ?_
  refine gd_fi (fun c0_0 => ?_) (fun c0_0 => ?_)
  · refine gd_c n_a0 ?_
    refine gd_fi (fun c1_0 => ?_) (fun c1_0 => ?_)
    · exact gd_tV (ext_r _) (gX95_setQueue_21 _ _ _ _ ⟨T.1, T.2⟩ n_a0 ((h.1 c0_0).1 c1_0))
    · refine gd_fi (fun c2_0 => ?_) (fun c2_0 => ?_)
      · exact gd_tV (ext_r _) (gX95_setQueue_21 _ _ _ _ ⟨T.1, T.2⟩ n_a0 (((h.1 c0_0).2 c1_0).1 c2_0))
      · exact gd_tV (ext_r _) (gX95_setQueue_20  _ ⟨T.1, T.2⟩  )
  · exact gd_tV (ext_r _) (gX95_setQueue_20  _ ⟨T.1, T.2⟩  )
noncomputable def GX95_setQueue (a0 : Nat) (a1 : Int32) (a2 : Int32) (M : FM) : FM := GX95_setQueue_0 a0 a1 a2 M
def HX95_setQueue (a0 : Nat) (a1 : Int32) (a2 : Int32) (M : FM) : Prop := HX95_setQueue_0 a0 a1 a2 M
theorem gX95_setQueue (a0 : Nat) (a1 : Int32) (a2 : Int32) (M : FM) (T : Ty M) (n_a0 : fm_is M 93 93 a0 = true) (h : HX95_setQueue a0 a1 a2 M) : gd (FX95_setQueue a0 a1 a2 M) (GX95_setQueue a0 a1 a2 M) (OkV M) := gX95_setQueue_0 a0 a1 a2 M T n_a0 h
noncomputable def GX95_isThere_19 (s0 : Int32) (M : FM) : Int32 × FM :=
  (s0, M)
theorem gX95_isThere_19 (s0 : Int32) (M : FM) (T : Ty M) (z_s0 : s0 = 0 ∨ s0 = 1) : gd (FX95_isThere_19 s0 M) (GX95_isThere_19 s0 M) (OkZ M) := by
  delta FX95_isThere_19 BX95_isThere_19
  exact gd_z z_s0 ⟨T.1, T.2⟩ (ext_r _) rfl
noncomputable def GX95_isThere_14 (M : FM) : Int32 × FM :=
  GX95_isThere_19 (Int32.ofInt 1) M
theorem gX95_isThere_14 (M : FM) (T : Ty M) : gd (FX95_isThere_14 M) (GX95_isThere_14 M) (OkZ M) := by
  delta FX95_isThere_14 BX95_isThere_14
  exact gd_tZ (ext_r _) (gX95_isThere_19 _ _ ⟨T.1, T.2⟩ fz_1 )
noncomputable def GX95_isThere_0 (a0 : Int64) (a2 : Int64) (M : FM) : Int32 × FM :=
  fi ((lg_cmp a2 (Int64.ofInt 0)) = 0) (
    GX95_isThere_14 M) (
    let r1 : Int32 × FM := GX93_areBytes a0 a2 M
    fi (r1.1 = 0) (
      GX95_isThere_19 (Int32.ofInt 0) r1.2) (
      GX95_isThere_14 r1.2))
theorem gX95_isThere_0 (a0 : Int64) (a2 : Int64) (M : FM) (T : Ty M) : gd (FX95_isThere_0 a0 a2 M) (GX95_isThere_0 a0 a2 M) (OkZ M) := by
  delta FX95_isThere_0 BX95_isThere_0
  refine gd_fi (fun c0_0 => ?_) (fun c0_0 => ?_)
  · exact gd_tZ (ext_r _) (gX95_isThere_14  _ ⟨T.1, T.2⟩  )
  · refine gd_b (gX93_areBytes _ _ _ ⟨T.1, T.2⟩  ) (fun K1 => ?_)
    refine gd_fi (fun c2_0 => ?_) (fun c2_0 => ?_)
    · exact gd_tZ K1.2.1 (gX95_isThere_19 _ _ ⟨K1.1.1, K1.1.2⟩ fz_0 )
    · exact gd_tZ K1.2.1 (gX95_isThere_14  _ ⟨K1.1.1, K1.1.2⟩  )
noncomputable def GX95_isThere (a0 : Int64) (a2 : Int64) (M : FM) : Int32 × FM := GX95_isThere_0 a0 a2 M
theorem gX95_isThere (a0 : Int64) (a2 : Int64) (M : FM) (T : Ty M) : gd (FX95_isThere a0 a2 M) (GX95_isThere a0 a2 M) (OkZ M) := gX95_isThere_0 a0 a2 M T 
noncomputable def GX95_breakDown_0 (a0 : Nat) (M : FM) : FM :=
  let M1 : FM := fm_sI M 333 a0 0 ((M.1 333 a0 0) ||| (Int32.ofInt 64))
  let M2 : FM := fm_sI M1 332 a0 0 ((M1.1 332 a0 0) ||| (Int32.ofInt 2))
  M2
theorem gX95_breakDown_0 (a0 : Nat) (M : FM) (T : Ty M) (n_a0 : fm_is M 93 93 a0 = true) : gd (FX95_breakDown_0 a0 M) (GX95_breakDown_0 a0 M) (OkV M) := by
  delta FX95_breakDown_0 BX95_breakDown_0
  refine gd_c n_a0 ?_
  refine gd_c n_a0 ?_
  refine gd_c n_a0 ?_
  refine gd_c n_a0 ?_
  exact ⟨rfl, ⟨T.1, (tyb_sI (f := 332) rfl (tyb_sI (f := 333) rfl T.2))⟩, (ext_dI (ext_dI (ext_r _)))⟩
noncomputable def GX95_breakDown (a0 : Nat) (M : FM) : FM := GX95_breakDown_0 a0 M
theorem gX95_breakDown (a0 : Nat) (M : FM) (T : Ty M) (n_a0 : fm_is M 93 93 a0 = true) : gd (FX95_breakDown a0 M) (GX95_breakDown a0 M) (OkV M) := gX95_breakDown_0 a0 M T n_a0 
def kX95_number (k8 : Nat → Int64 → Int64 → Int32 → FM → Option (Int64 × FM)) : (Nat × Int64 × Int64 × Int32 × FM) ⊕ (Int64 × FM) → Option (Int64 × FM)
  | .inl (v0, v1, v2, v3, M') => k8 v0 v1 v2 v3 M'
  | .inr (r) => some r
def pX95_number (M : FM) : (Nat × Int64 × Int64 × Int32 × FM) ⊕ (Int64 × FM) → Prop
  | .inl (_, _, _, _, M') => OkV M M'
  | .inr (r) => OkR M r
theorem pX95_number_t {M M1 : FM} (e : Ext M M1) : ∀ y, pX95_number M1 y → pX95_number M y
  | .inl (_, _, _, _, _), h => ⟨h.1, ext_tr e h.2⟩
  | .inr (r), h => ⟨h.1, ext_tr e h.2⟩
noncomputable def GX95_number_0 (a0 : Nat) (a1 : Int64) (a3 : Int32) (M : FM) : (Nat × Int64 × Int64 × Int32 × FM) ⊕ (Int64 × FM) :=
  let x1 : Int32 := (a3 - (Int32.ofInt 1))
  (.inl (a0, a1, (Int64.ofInt 0), x1, M))
theorem gX95_number_0 (k8 : Nat → Int64 → Int64 → Int32 → FM → Option (Int64 × FM)) (a0 : Nat) (a1 : Int64) (a3 : Int32) (M : FM) (T : Ty M) : gs (FX95_number_0 fN k8 a0 a1 a3 M) (GX95_number_0 a0 a1 a3 M) (kX95_number k8) (pX95_number M) := by
  delta FX95_number_0 BX95_number_0
  exact And.intro rfl (And.intro (And.intro T.1 T.2) ((ext_r _)))
noncomputable def GX95_number_8 (a0 : Nat) (a1 : Int64) (a4 : Int64) (a6 : Int32) (M : FM) : (Nat × Int64 × Int64 × Int32 × FM) ⊕ (Int64 × FM) :=
  fi (a6 < 0) (
    (.inr (a4, M))) (
    let x1 : Nat := (M.2.2 326 a0 0)
    let r2 : Int32 × FM := GX93_get x1 (a1 + a6.toInt64) M
    let x3 : Int64 := (((Int64.ofInt 256) * a4) + r2.1.toInt64)
    let x4 : Int32 := a6 + (Int32.ofInt (-1))
    (.inl (a0, a1, x3, x4, r2.2)))
def HX95_number_8 (a0 : Nat) (a1 : Int64) (a4 : Int64) (a6 : Int32) (M : FM) : Prop := ((a6 < 0 → True) ∧ (¬ (a6 < 0) → let x1 : Nat := (M.2.2 326 a0 0); (HX93_get x1 (a1 + a6.toInt64) M ∧ True)))
theorem gX95_number_8 (k8 : Nat → Int64 → Int64 → Int32 → FM → Option (Int64 × FM)) (a0 : Nat) (a1 : Int64) (a4 : Int64) (a6 : Int32) (M : FM) (T : Ty M) (n_a0 : fm_is M 93 93 a0 = true) (h : HX95_number_8 a0 a1 a4 a6 M) : gs (FX95_number_8 fN k8 a0 a1 a4 a6 M) (GX95_number_8 a0 a1 a4 a6 M) (kX95_number k8) (pX95_number M) := by
  delta FX95_number_8 BX95_number_8
  refine gs_fi (fun c0_0 => ?_) (fun c0_0 => ?_)
  · exact And.intro rfl (And.intro (And.intro T.1 T.2) ((ext_r _)))
  · refine gs_c n_a0 ?_
    have f1 := (tN_326 T.1 n_a0)
    refine gs_c f1 ?_
    have f3 := (tN_326 T.1 n_a0)
    refine gs_b (gX93_get _ _ _ ⟨T.1, T.2⟩ f3 (h.2 c0_0).1) (fun K2 => ?_)
    exact And.intro rfl (And.intro (And.intro K2.1.1 K2.1.2) K2.2)
noncomputable def GX95_number (a0 : Nat) (a1 : Int64) (a2 : Int32) (M : FM) : Int64 × FM := (FX95_number fN a0 a1 a2 M).getD (0, M)
def HX95_number (a0 : Nat) (a1 : Int64) (a2 : Int32) (M : FM) : Prop := ∃ r, FX95_number fN a0 a1 a2 M = some r ∧ OkR M r
theorem gX95_number (a0 : Nat) (a1 : Int64) (a2 : Int32) (M : FM) (h : HX95_number a0 a1 a2 M) : gd (FX95_number fN a0 a1 a2 M) (GX95_number a0 a1 a2 M) (OkR M) := gd_op h
def kX95_gather (k9 : Nat → Int32 → Int32 → FM → Option (Int32 × FM)) : (Nat × Int32 × Int32 × FM) ⊕ (Int32 × FM) → Option (Int32 × FM)
  | .inl (v0, v1, v2, M') => k9 v0 v1 v2 M'
  | .inr (r) => some r
def pX95_gather (M : FM) : (Nat × Int32 × Int32 × FM) ⊕ (Int32 × FM) → Prop
  | .inl (_, _, _, M') => OkV M M'
  | .inr (r) => OkZ M r
theorem pX95_gather_t {M M1 : FM} (e : Ext M M1) : ∀ y, pX95_gather M1 y → pX95_gather M y
  | .inl (_, _, _, _), h => ⟨h.1, ext_tr e h.2⟩
  | .inr (r), h => ⟨h.1, ext_tr e h.2.1, h.2.2⟩
noncomputable def GX95_gather_306 (s0 : Int32) (M : FM) : (Nat × Int32 × Int32 × FM) ⊕ (Int32 × FM) :=
  (.inr (s0, M))
theorem gX95_gather_306 (k9 : Nat → Int32 → Int32 → FM → Option (Int32 × FM)) (s0 : Int32) (M : FM) (T : Ty M) (z_s0 : s0 = 0 ∨ s0 = 1) : gs (FX95_gather_306 fN k9 s0 M) (GX95_gather_306 s0 M) (kX95_gather k9) (pX95_gather M) := by
  delta FX95_gather_306 BX95_gather_306
  exact gs_z z_s0 ⟨T.1, T.2⟩ (ext_r _) rfl (fun h => h)
noncomputable def GX95_gather_305 (M : FM) : (Nat × Int32 × Int32 × FM) ⊕ (Int32 × FM) :=
  GX95_gather_306 (Int32.ofInt 0) M
theorem gX95_gather_305 (k9 : Nat → Int32 → Int32 → FM → Option (Int32 × FM)) (M : FM) (T : Ty M) : gs (FX95_gather_305 fN k9 M) (GX95_gather_305 M) (kX95_gather k9) (pX95_gather M) := by
  delta FX95_gather_305 BX95_gather_305
  exact gs_t (pX95_gather_t (ext_r _)) (gX95_gather_306 k9 _ _ ⟨T.1, T.2⟩ fz_0 )
noncomputable def GX95_gather_222 (a0 : Nat) (a4 : Int64) (s0 : Int32) (M : FM) : (Nat × Int32 × Int32 × FM) ⊕ (Int32 × FM) :=
  let r1 : Int64 × FM := GX95_number a0 (a4 + (Int64.ofInt 14)) (Int32.ofInt 2) M
  let x2 : Int32 := r1.1.toInt32
  let M3 : FM := fm_sI r1.2 339 a0 0 ((r1.2.1 339 a0 0) + (Int32.ofInt 1))
  (.inl (a0, x2, s0, M3))
def HX95_gather_222 (a0 : Nat) (a4 : Int64) (s0 : Int32) (M : FM) : Prop := (HX95_number a0 (a4 + (Int64.ofInt 14)) (Int32.ofInt 2) M ∧ True)
theorem gX95_gather_222 (k9 : Nat → Int32 → Int32 → FM → Option (Int32 × FM)) (a0 : Nat) (a4 : Int64) (s0 : Int32) (M : FM) (T : Ty M) (n_a0 : fm_is M 93 93 a0 = true) (h : HX95_gather_222 a0 a4 s0 M) : gs (FX95_gather_222 fN k9 a0 a4 s0 M) (GX95_gather_222 a0 a4 s0 M) (kX95_gather k9) (pX95_gather M) := by
  delta FX95_gather_222 BX95_gather_222
  refine gs_c n_a0 ?_
  refine gs_b (gX95_number _ _ _ _ h.1) (fun K0 => ?_)
  have f1 := (ext_is K0.2 (Nat.zero_lt_succ _) n_a0)
  refine gs_c f1 ?_
  have f2 := (ext_is K0.2 (Nat.zero_lt_succ _) n_a0)
  refine gs_c f2 ?_
  exact And.intro rfl (And.intro (And.intro K0.1.1 (tyb_sI (f := 339) rfl K0.1.2)) ((ext_tr K0.2 (ext_dI (ext_r _)))))
noncomputable def GX95_gather_208 (M : FM) : (Nat × Int32 × Int32 × FM) ⊕ (Int32 × FM) :=
  (.inr ((Int32.ofInt 0), M))
theorem gX95_gather_208 (k9 : Nat → Int32 → Int32 → FM → Option (Int32 × FM)) (M : FM) (T : Ty M) : gs (FX95_gather_208 fN k9 M) (GX95_gather_208 M) (kX95_gather k9) (pX95_gather M) := by
  delta FX95_gather_208 BX95_gather_208
  exact gs_z fz_0 ⟨T.1, T.2⟩ (ext_r _) rfl (fun h => h)
noncomputable def GX95_gather_170 (a0 : Nat) (a4 : Int64) (a6 : Int32) (s0 : Int32) (M : FM) : (Nat × Int32 × Int32 × FM) ⊕ (Int32 × FM) :=
  fi ((a6 &&& (Int32.ofInt 4)) = 0) (
    fi (s0 = 0) (
      let x1 : Int32 := (M.1 339 a0 0)
      let x2 : Nat := (M.2.2 340 a0 0)
      let x3 : Int32 := (M.1 339 a0 0)
      let x4 : Nat := (M.2.2 341 a0 0)
      let r5 : Int32 × FM := GX95_isThere (M.2.1 3 x2 x1.toNatClampNeg) (M.2.1 3 x4 x3.toNatClampNeg) M
      fi (r5.1 = 0) (
        GX95_gather_208 r5.2) (
        fi ((a6 &&& (Int32.ofInt 1)) = 0) (
          GX95_gather_222 a0 a4 (Int32.ofInt 0) r5.2) (
          GX95_gather_222 a0 a4 (Int32.ofInt 1) r5.2))) (
      GX95_gather_208 M)) (
    GX95_gather_208 M)
def HX95_gather_170 (a0 : Nat) (a4 : Int64) (a6 : Int32) (s0 : Int32) (M : FM) : Prop := (((a6 &&& (Int32.ofInt 4)) = 0 → ((s0 = 0 → let x1 : Int32 := (M.1 339 a0 0); let x2 : Nat := (M.2.2 340 a0 0); (fm_in M x2 x1 = true ∧ let x3 : Int32 := (M.1 339 a0 0); let x4 : Nat := (M.2.2 341 a0 0); (fm_in M x4 x3 = true ∧ let r5 : Int32 × FM := GX95_isThere (M.2.1 3 x2 x1.toNatClampNeg) (M.2.1 3 x4 x3.toNatClampNeg) M; ((r5.1 = 0 → True) ∧ (¬ (r5.1 = 0) → (((a6 &&& (Int32.ofInt 1)) = 0 → HX95_gather_222 a0 a4 (Int32.ofInt 0) r5.2) ∧ (¬ ((a6 &&& (Int32.ofInt 1)) = 0) → HX95_gather_222 a0 a4 (Int32.ofInt 1) r5.2))))))) ∧ (¬ (s0 = 0) → True))) ∧ (¬ ((a6 &&& (Int32.ofInt 4)) = 0) → True))
theorem gX95_gather_170 (k9 : Nat → Int32 → Int32 → FM → Option (Int32 × FM)) (a0 : Nat) (a4 : Int64) (a6 : Int32) (s0 : Int32) (M : FM) (T : Ty M) (n_a0 : fm_is M 93 93 a0 = true) (h : HX95_gather_170 a0 a4 a6 s0 M) : gs (FX95_gather_170 fN k9 a0 a4 a6 s0 M) (GX95_gather_170 a0 a4 a6 s0 M) (kX95_gather k9) (pX95_gather M) := by
  delta FX95_gather_170 BX95_gather_170
  refine gs_fi (fun c0_0 => ?_) (fun c0_0 => ?_)
  · refine gs_fi (fun c1_0 => ?_) (fun c1_0 => ?_)
    · refine gs_c n_a0 ?_
      refine gs_c n_a0 ?_
      have f9 := (tN_340 T.1 n_a0)
      have f10 := ((h.1 c0_0).1 c1_0).1
      refine gs_c ⟨f9, f10⟩ ?_
      refine gs_c n_a0 ?_
      refine gs_c n_a0 ?_
      have f7 := (tN_341 T.1 n_a0)
      have f8 := ((h.1 c0_0).1 c1_0).2.1
      refine gs_c ⟨f7, f8⟩ ?_
      refine gs_b (gX95_isThere _ _ _ ⟨T.1, T.2⟩  ) (fun K2 => ?_)
      refine gs_fi (fun c3_0 => ?_) (fun c3_0 => ?_)
      · exact gs_t (pX95_gather_t K2.2.1) (gX95_gather_208 k9  _ ⟨K2.1.1, K2.1.2⟩  )
      · refine gs_fi (fun c4_0 => ?_) (fun c4_0 => ?_)
        · have f5 := (ext_is K2.2.1 (Nat.zero_lt_succ _) n_a0)
          exact gs_t (pX95_gather_t K2.2.1) (gX95_gather_222 k9 _ _ _ _ ⟨K2.1.1, K2.1.2⟩ f5 ((((h.1 c0_0).1 c1_0).2.2.2 c3_0).1 c4_0))
        · have f6 := (ext_is K2.2.1 (Nat.zero_lt_succ _) n_a0)
          exact gs_t (pX95_gather_t K2.2.1) (gX95_gather_222 k9 _ _ _ _ ⟨K2.1.1, K2.1.2⟩ f6 ((((h.1 c0_0).1 c1_0).2.2.2 c3_0).2 c4_0))
    · exact gs_t (pX95_gather_t (ext_r _)) (gX95_gather_208 k9  _ ⟨T.1, T.2⟩  )
  · exact gs_t (pX95_gather_t (ext_r _)) (gX95_gather_208 k9  _ ⟨T.1, T.2⟩  )
noncomputable def GX95_gather_169 (a0 : Nat) (a4 : Int64) (a6 : Int32) (M : FM) : (Nat × Int32 × Int32 × FM) ⊕ (Int32 × FM) :=
  GX95_gather_170 a0 a4 a6 (Int32.ofInt 0) M
def HX95_gather_169 (a0 : Nat) (a4 : Int64) (a6 : Int32) (M : FM) : Prop := HX95_gather_170 a0 a4 a6 (Int32.ofInt 0) M
theorem gX95_gather_169 (k9 : Nat → Int32 → Int32 → FM → Option (Int32 × FM)) (a0 : Nat) (a4 : Int64) (a6 : Int32) (M : FM) (T : Ty M) (n_a0 : fm_is M 93 93 a0 = true) (h : HX95_gather_169 a0 a4 a6 M) : gs (FX95_gather_169 fN k9 a0 a4 a6 M) (GX95_gather_169 a0 a4 a6 M) (kX95_gather k9) (pX95_gather M) := by
  delta FX95_gather_169 BX95_gather_169
  exact gs_t (pX95_gather_t (ext_r _)) (gX95_gather_170 k9 _ _ _ _ _ ⟨T.1, T.2⟩ n_a0 h)
noncomputable def GX95_gather_131 (a0 : Nat) (a4 : Int64) (a6 : Int32) (s0 : Nat) (s1 : Int32) (s2 : Int32) (M : FM) : (Nat × Int32 × Int32 × FM) ⊕ (Int32 × FM) :=
  let M1 : FM := fm_sI M 3 s0 s1.toNatClampNeg (s2 &&& 1)
  fi ((M1.1 339 a0 0) ≤ 0) (
    GX95_gather_169 a0 a4 a6 M1) (
    let x2 : Int32 := ((M1.1 339 a0 0) - (Int32.ofInt 1))
    let x3 : Nat := (M1.2.2 342 a0 0)
    fi ((M1.1 3 x3 x2.toNatClampNeg) = 0) (
      GX95_gather_169 a0 a4 a6 M1) (
      let x4 : Int32 := (M1.1 339 a0 0)
      let x5 : Nat := (M1.2.2 342 a0 0)
      fi ((M1.1 3 x5 x4.toNatClampNeg) = 0) (
        GX95_gather_170 a0 a4 a6 (Int32.ofInt 1) M1) (
        GX95_gather_169 a0 a4 a6 M1)))
def HX95_gather_131 (a0 : Nat) (a4 : Int64) (a6 : Int32) (s0 : Nat) (s1 : Int32) (s2 : Int32) (M : FM) : Prop := (fm_in M s0 s1 = true ∧ let M1 : FM := fm_sI M 3 s0 s1.toNatClampNeg (s2 &&& 1); (((M1.1 339 a0 0) ≤ 0 → HX95_gather_169 a0 a4 a6 M1) ∧ (¬ ((M1.1 339 a0 0) ≤ 0) → let x2 : Int32 := ((M1.1 339 a0 0) - (Int32.ofInt 1)); let x3 : Nat := (M1.2.2 342 a0 0); (fm_in M1 x3 x2 = true ∧ (((M1.1 3 x3 x2.toNatClampNeg) = 0 → HX95_gather_169 a0 a4 a6 M1) ∧ (¬ ((M1.1 3 x3 x2.toNatClampNeg) = 0) → let x4 : Int32 := (M1.1 339 a0 0); let x5 : Nat := (M1.2.2 342 a0 0); (fm_in M1 x5 x4 = true ∧ (((M1.1 3 x5 x4.toNatClampNeg) = 0 → HX95_gather_170 a0 a4 a6 (Int32.ofInt 1) M1) ∧ (¬ ((M1.1 3 x5 x4.toNatClampNeg) = 0) → HX95_gather_169 a0 a4 a6 M1)))))))))
theorem gX95_gather_131 (k9 : Nat → Int32 → Int32 → FM → Option (Int32 × FM)) (a0 : Nat) (a4 : Int64) (a6 : Int32) (s0 : Nat) (s1 : Int32) (s2 : Int32) (M : FM) (T : Ty M) (n_s0 : fm_is M 904 904 s0 = true) (n_a0 : fm_is M 93 93 a0 = true) (h : HX95_gather_131 a0 a4 a6 s0 s1 s2 M) : gs (FX95_gather_131 fN k9 a0 a4 a6 s0 s1 s2 M) (GX95_gather_131 a0 a4 a6 s0 s1 s2 M) (kX95_gather k9) (pX95_gather M) := by
  delta FX95_gather_131 BX95_gather_131
  refine gs_c ⟨n_s0, h.1⟩ ?_
  refine gs_c n_a0 ?_
  refine gs_fi (fun c0_0 => ?_) (fun c0_0 => ?_)
  · exact gs_t (pX95_gather_t (ext_dI (ext_r _))) (gX95_gather_169 k9 _ _ _ _ ⟨T.1, (tyb_s4 T.2)⟩ n_a0 (h.2.1 c0_0))
  · refine gs_c n_a0 ?_
    refine gs_c n_a0 ?_
    have f5 := (tN_342 T.1 n_a0)
    refine gs_c ⟨f5, (h.2.2 c0_0).1⟩ ?_
    refine gs_fi (fun c1_0 => ?_) (fun c1_0 => ?_)
    · exact gs_t (pX95_gather_t (ext_dI (ext_r _))) (gX95_gather_169 k9 _ _ _ _ ⟨T.1, (tyb_s4 T.2)⟩ n_a0 ((h.2.2 c0_0).2.1 c1_0))
    · refine gs_c n_a0 ?_
      refine gs_c n_a0 ?_
      have f3 := (tN_342 T.1 n_a0)
      have f4 := ((h.2.2 c0_0).2.2 c1_0).1
      refine gs_c ⟨f3, f4⟩ ?_
      refine gs_fi (fun c2_0 => ?_) (fun c2_0 => ?_)
      · exact gs_t (pX95_gather_t (ext_dI (ext_r _))) (gX95_gather_170 k9 _ _ _ _ _ ⟨T.1, (tyb_s4 T.2)⟩ n_a0 (((h.2.2 c0_0).2.2 c1_0).2.1 c2_0))
      · exact gs_t (pX95_gather_t (ext_dI (ext_r _))) (gX95_gather_169 k9 _ _ _ _ ⟨T.1, (tyb_s4 T.2)⟩ n_a0 (((h.2.2 c0_0).2.2 c1_0).2.2 c2_0))
noncomputable def GX95_gather_58 (M : FM) : (Nat × Int32 × Int32 × FM) ⊕ (Int32 × FM) :=
  (.inr ((Int32.ofInt 0), M))
theorem gX95_gather_58 (k9 : Nat → Int32 → Int32 → FM → Option (Int32 × FM)) (M : FM) (T : Ty M) : gs (FX95_gather_58 fN k9 M) (GX95_gather_58 M) (kX95_gather k9) (pX95_gather M) := by
  delta FX95_gather_58 BX95_gather_58
  exact gs_z fz_0 ⟨T.1, T.2⟩ (ext_r _) rfl (fun h => h)
noncomputable def GX95_gather_0 (a0 : Nat) (a1 : Int32) (M : FM) : (Nat × Int32 × Int32 × FM) ⊕ (Int32 × FM) :=
  let M1 : FM := fm_sI M 339 a0 0 (Int32.ofInt 0)
  (.inl (a0, a1, (Int32.ofInt 1), M1))
theorem gX95_gather_0 (k9 : Nat → Int32 → Int32 → FM → Option (Int32 × FM)) (a0 : Nat) (a1 : Int32) (M : FM) (T : Ty M) (n_a0 : fm_is M 93 93 a0 = true) : gs (FX95_gather_0 fN k9 a0 a1 M) (GX95_gather_0 a0 a1 M) (kX95_gather k9) (pX95_gather M) := by
  delta FX95_gather_0 BX95_gather_0
  refine gs_c n_a0 ?_
  exact And.intro rfl (And.intro (And.intro T.1 (tyb_sI (f := 339) rfl T.2)) ((ext_dI (ext_r _))))
noncomputable def GX95_gather_9 (a0 : Nat) (a2 : Int32) (a3 : Int32) (M : FM) : (Nat × Int32 × Int32 × FM) ⊕ (Int32 × FM) :=
  fi (a3 = 0) (
    let x1 : Nat := (M.2.2 342 a0 0)
    fi ((M.1 3 x1 (Int32.ofInt 0).toNatClampNeg) = 0) (
      let x2 : Nat := (M.2.2 341 a0 0)
      fi ((lg_cmp (M.2.1 3 x2 (Int32.ofInt 0).toNatClampNeg) (Int64.ofInt 16)) < 0) (
        GX95_gather_305 M) (
        let x3 : Int32 := ((M.1 339 a0 0) - (Int32.ofInt 1))
        let x4 : Nat := (M.2.2 342 a0 0)
        fi ((M.1 3 x4 x3.toNatClampNeg) = 0) (
          GX95_gather_305 M) (
          let x5 : Int32 := ((M.1 339 a0 0) - (Int32.ofInt 1))
          let x6 : Nat := (M.2.2 341 a0 0)
          fi ((lg_cmp (M.2.1 3 x6 x5.toNatClampNeg) (Int64.ofInt 0)) ≤ 0) (
            GX95_gather_305 M) (
            GX95_gather_306 (Int32.ofInt 1) M)))) (
      GX95_gather_305 M)) (
    let x7 : Nat := (M.2.2 334 a0 0)
    let x8 : Int64 := ((M.2.1 3 x7 (Int32.ofInt 0).toNatClampNeg) + ((Int64.ofInt 16) * a2.toInt64))
    fi ((M.1 330 a0 0) ≤ a2) (
      GX95_gather_58 M) (
      fi ((M.1 339 a0 0) = (M.1 330 a0 0)) (
        GX95_gather_58 M) (
        let r9 : Int32 × FM := GX95_isThere x8 (Int64.ofInt 16) M
        fi (r9.1 = 0) (
          GX95_gather_58 r9.2) (
          let r10 : Int64 × FM := GX95_number a0 (x8 + (Int64.ofInt 12)) (Int32.ofInt 2) r9.2
          let x11 : Int32 := r10.1.toInt32
          let r12 : Int64 × FM := GX95_number a0 x8 (Int32.ofInt 8) r10.2
          let x13 : Int32 := (r10.2.1 339 a0 0)
          let x14 : Nat := (r10.2.2.2 340 a0 0)
          let M15 : FM := fm_sL r12.2 3 x14 x13.toNatClampNeg r12.1
          let r16 : Int64 × FM := GX95_number a0 (x8 + (Int64.ofInt 8)) (Int32.ofInt 4) M15
          let x17 : Int32 := (M15.1 339 a0 0)
          let x18 : Nat := (M15.2.2 341 a0 0)
          let M19 : FM := fm_sL r16.2 3 x18 x17.toNatClampNeg r16.1
          fi ((x11 &&& (Int32.ofInt 2)) = 0) (
            GX95_gather_131 a0 x8 x11 (M19.2.2 342 a0 0) (M19.1 339 a0 0) (Int32.ofInt 0) M19) (
            GX95_gather_131 a0 x8 x11 (M19.2.2 342 a0 0) (M19.1 339 a0 0) (Int32.ofInt 1) M19)))))
def HX95_gather_9 (a0 : Nat) (a2 : Int32) (a3 : Int32) (M : FM) : Prop := ((a3 = 0 → let x1 : Nat := (M.2.2 342 a0 0); (((M.1 3 x1 (Int32.ofInt 0).toNatClampNeg) = 0 → let x2 : Nat := (M.2.2 341 a0 0); (((lg_cmp (M.2.1 3 x2 (Int32.ofInt 0).toNatClampNeg) (Int64.ofInt 16)) < 0 → True) ∧ (¬ ((lg_cmp (M.2.1 3 x2 (Int32.ofInt 0).toNatClampNeg) (Int64.ofInt 16)) < 0) → let x3 : Int32 := ((M.1 339 a0 0) - (Int32.ofInt 1)); let x4 : Nat := (M.2.2 342 a0 0); (fm_in M x4 x3 = true ∧ (((M.1 3 x4 x3.toNatClampNeg) = 0 → True) ∧ (¬ ((M.1 3 x4 x3.toNatClampNeg) = 0) → let x5 : Int32 := ((M.1 339 a0 0) - (Int32.ofInt 1)); let x6 : Nat := (M.2.2 341 a0 0); (fm_in M x6 x5 = true ∧ True))))))) ∧ (¬ ((M.1 3 x1 (Int32.ofInt 0).toNatClampNeg) = 0) → True))) ∧ (¬ (a3 = 0) → let x7 : Nat := (M.2.2 334 a0 0); let x8 : Int64 := ((M.2.1 3 x7 (Int32.ofInt 0).toNatClampNeg) + ((Int64.ofInt 16) * a2.toInt64)); (((M.1 330 a0 0) ≤ a2 → True) ∧ (¬ ((M.1 330 a0 0) ≤ a2) → (((M.1 339 a0 0) = (M.1 330 a0 0) → True) ∧ (¬ ((M.1 339 a0 0) = (M.1 330 a0 0)) → let r9 : Int32 × FM := GX95_isThere x8 (Int64.ofInt 16) M; ((r9.1 = 0 → True) ∧ (¬ (r9.1 = 0) → (HX95_number a0 (x8 + (Int64.ofInt 12)) (Int32.ofInt 2) r9.2 ∧ let r10 : Int64 × FM := GX95_number a0 (x8 + (Int64.ofInt 12)) (Int32.ofInt 2) r9.2; let x11 : Int32 := r10.1.toInt32; (HX95_number a0 x8 (Int32.ofInt 8) r10.2 ∧ let r12 : Int64 × FM := GX95_number a0 x8 (Int32.ofInt 8) r10.2; let x13 : Int32 := (r10.2.1 339 a0 0); let x14 : Nat := (r10.2.2.2 340 a0 0); (fm_in r12.2 x14 x13 = true ∧ let M15 : FM := fm_sL r12.2 3 x14 x13.toNatClampNeg r12.1; (HX95_number a0 (x8 + (Int64.ofInt 8)) (Int32.ofInt 4) M15 ∧ let r16 : Int64 × FM := GX95_number a0 (x8 + (Int64.ofInt 8)) (Int32.ofInt 4) M15; let x17 : Int32 := (M15.1 339 a0 0); let x18 : Nat := (M15.2.2 341 a0 0); (fm_in r16.2 x18 x17 = true ∧ let M19 : FM := fm_sL r16.2 3 x18 x17.toNatClampNeg r16.1; (((x11 &&& (Int32.ofInt 2)) = 0 → HX95_gather_131 a0 x8 x11 (M19.2.2 342 a0 0) (M19.1 339 a0 0) (Int32.ofInt 0) M19) ∧ (¬ ((x11 &&& (Int32.ofInt 2)) = 0) → HX95_gather_131 a0 x8 x11 (M19.2.2 342 a0 0) (M19.1 339 a0 0) (Int32.ofInt 1) M19)))))))))))))))
theorem gX95_gather_9 (k9 : Nat → Int32 → Int32 → FM → Option (Int32 × FM)) (a0 : Nat) (a2 : Int32) (a3 : Int32) (M : FM) (T : Ty M) (n_a0 : fm_is M 93 93 a0 = true) (h : HX95_gather_9 a0 a2 a3 M) : gs (FX95_gather_9 fN k9 a0 a2 a3 M) (GX95_gather_9 a0 a2 a3 M) (kX95_gather k9) (pX95_gather M) := by
  delta FX95_gather_9 BX95_gather_9
  refine gs_fi (fun c0_0 => ?_) (fun c0_0 => ?_)
  · refine gs_c n_a0 ?_
    have f11 := (tN_342 T.1 n_a0)
    have f12 := (fm_inl (i := (Int32.ofInt 0)) (tL_342 T.1 n_a0) (by decide))
    refine gs_c ⟨f11, f12⟩ ?_
    refine gs_fi (fun c1_0 => ?_) (fun c1_0 => ?_)
    · refine gs_c n_a0 ?_
      have f9 := (tN_341 T.1 n_a0)
      have f10 := (fm_inl (i := (Int32.ofInt 0)) (tL_341 T.1 n_a0) (by decide))
      refine gs_c ⟨f9, f10⟩ ?_
      refine gs_fi (fun c2_0 => ?_) (fun c2_0 => ?_)
      · exact gs_t (pX95_gather_t (ext_r _)) (gX95_gather_305 k9  _ ⟨T.1, T.2⟩  )
      · refine gs_c n_a0 ?_
        refine gs_c n_a0 ?_
        have f7 := (tN_342 T.1 n_a0)
        have f8 := (((h.1 c0_0).1 c1_0).2 c2_0).1
        refine gs_c ⟨f7, f8⟩ ?_
        refine gs_fi (fun c3_0 => ?_) (fun c3_0 => ?_)
        · exact gs_t (pX95_gather_t (ext_r _)) (gX95_gather_305 k9  _ ⟨T.1, T.2⟩  )
        · refine gs_c n_a0 ?_
          refine gs_c n_a0 ?_
          have f5 := (tN_341 T.1 n_a0)
          have f6 := ((((h.1 c0_0).1 c1_0).2 c2_0).2.2 c3_0).1
          refine gs_c ⟨f5, f6⟩ ?_
          refine gs_fi (fun c4_0 => ?_) (fun c4_0 => ?_)
          · exact gs_t (pX95_gather_t (ext_r _)) (gX95_gather_305 k9  _ ⟨T.1, T.2⟩  )
          · exact gs_t (pX95_gather_t (ext_r _)) (gX95_gather_306 k9 _ _ ⟨T.1, T.2⟩ fz_1 )
    · exact gs_t (pX95_gather_t (ext_r _)) (gX95_gather_305 k9  _ ⟨T.1, T.2⟩  )
  · refine gs_c n_a0 ?_
    have f38 := (tN_334 T.1 n_a0)
    have f39 := (fm_inl (i := (Int32.ofInt 0)) (tL_334 T.1 n_a0) (by decide))
    refine gs_c ⟨f38, f39⟩ ?_
    refine gs_c n_a0 ?_
    refine gs_fi (fun c13_0 => ?_) (fun c13_0 => ?_)
    · exact gs_t (pX95_gather_t (ext_r _)) (gX95_gather_58 k9  _ ⟨T.1, T.2⟩  )
    · refine gs_c n_a0 ?_
      refine gs_c n_a0 ?_
      refine gs_fi (fun c14_0 => ?_) (fun c14_0 => ?_)
      · exact gs_t (pX95_gather_t (ext_r _)) (gX95_gather_58 k9  _ ⟨T.1, T.2⟩  )
      · refine gs_b (gX95_isThere _ _ _ ⟨T.1, T.2⟩  ) (fun K15 => ?_)
        refine gs_fi (fun c16_0 => ?_) (fun c16_0 => ?_)
        · exact gs_t (pX95_gather_t K15.2.1) (gX95_gather_58 k9  _ ⟨K15.1.1, K15.1.2⟩  )
        · have f17 := (ext_is K15.2.1 (Nat.zero_lt_succ _) n_a0)
          refine gs_c f17 ?_
          refine gs_b (gX95_number _ _ _ _ ((((h.2 c0_0).2 c13_0).2 c14_0).2 c16_0).1) (fun K18 => ?_)
          have f19 := (ext_is K18.2 (Nat.zero_lt_succ _) (ext_is K15.2.1 (Nat.zero_lt_succ _) n_a0))
          refine gs_c f19 ?_
          have f20 := (ext_is K18.2 (Nat.zero_lt_succ _) (ext_is K15.2.1 (Nat.zero_lt_succ _) n_a0))
          refine gs_c f20 ?_
          have f21 := (ext_is K18.2 (Nat.zero_lt_succ _) (ext_is K15.2.1 (Nat.zero_lt_succ _) n_a0))
          refine gs_c f21 ?_
          refine gs_b (gX95_number _ _ _ _ ((((h.2 c0_0).2 c13_0).2 c14_0).2 c16_0).2.1) (fun K22 => ?_)
          have f23 := (ext_is K22.2 (Nat.zero_lt_succ _) (tN_340 K18.1.1 (ext_is K18.2 (Nat.zero_lt_succ _) (ext_is K15.2.1 (Nat.zero_lt_succ _) n_a0))))
          have f24 := ((((h.2 c0_0).2 c13_0).2 c14_0).2 c16_0).2.2.1
          refine gs_c ⟨f23, f24⟩ ?_
          have f25 := (ext_is K22.2 (Nat.zero_lt_succ _) (ext_is K18.2 (Nat.zero_lt_succ _) (ext_is K15.2.1 (Nat.zero_lt_succ _) n_a0)))
          refine gs_c f25 ?_
          have f26 := (ext_is K22.2 (Nat.zero_lt_succ _) (ext_is K18.2 (Nat.zero_lt_succ _) (ext_is K15.2.1 (Nat.zero_lt_succ _) n_a0)))
          refine gs_c f26 ?_
          have f27 := (ext_is K22.2 (Nat.zero_lt_succ _) (ext_is K18.2 (Nat.zero_lt_succ _) (ext_is K15.2.1 (Nat.zero_lt_succ _) n_a0)))
          refine gs_c f27 ?_
          refine gs_b (gX95_number _ _ _ _ ((((h.2 c0_0).2 c13_0).2 c14_0).2 c16_0).2.2.2.1) (fun K28 => ?_)
          have f29 := (ext_is K28.2 (Nat.zero_lt_succ _) (tN_341 K22.1.1 (ext_is K22.2 (Nat.zero_lt_succ _) (ext_is K18.2 (Nat.zero_lt_succ _) (ext_is K15.2.1 (Nat.zero_lt_succ _) n_a0)))))
          have f30 := ((((h.2 c0_0).2 c13_0).2 c14_0).2 c16_0).2.2.2.2.1
          refine gs_c ⟨f29, f30⟩ ?_
          have f31 := (ext_is K28.2 (Nat.zero_lt_succ _) (ext_is K22.2 (Nat.zero_lt_succ _) (ext_is K18.2 (Nat.zero_lt_succ _) (ext_is K15.2.1 (Nat.zero_lt_succ _) n_a0))))
          refine gs_c f31 ?_
          have f32 := (ext_is K28.2 (Nat.zero_lt_succ _) (ext_is K22.2 (Nat.zero_lt_succ _) (ext_is K18.2 (Nat.zero_lt_succ _) (ext_is K15.2.1 (Nat.zero_lt_succ _) n_a0))))
          refine gs_c f32 ?_
          refine gs_fi (fun c33_0 => ?_) (fun c33_0 => ?_)
          · have f34 := (tN_342 K28.1.1 (ext_is K28.2 (Nat.zero_lt_succ _) (ext_is K22.2 (Nat.zero_lt_succ _) (ext_is K18.2 (Nat.zero_lt_succ _) (ext_is K15.2.1 (Nat.zero_lt_succ _) n_a0)))))
            have f35 := (ext_is K28.2 (Nat.zero_lt_succ _) (ext_is K22.2 (Nat.zero_lt_succ _) (ext_is K18.2 (Nat.zero_lt_succ _) (ext_is K15.2.1 (Nat.zero_lt_succ _) n_a0))))
            exact gs_t (pX95_gather_t (ext_tr K15.2.1 (ext_tr K18.2 (ext_tr K22.2 (ext_dL (ext_tr K28.2 (ext_dL (ext_r _)))))))) (gX95_gather_131 k9 _ _ _ _ _ _ _ ⟨K28.1.1, K28.1.2⟩ f34 f35 (((((h.2 c0_0).2 c13_0).2 c14_0).2 c16_0).2.2.2.2.2.1 c33_0))
          · have f36 := (tN_342 K28.1.1 (ext_is K28.2 (Nat.zero_lt_succ _) (ext_is K22.2 (Nat.zero_lt_succ _) (ext_is K18.2 (Nat.zero_lt_succ _) (ext_is K15.2.1 (Nat.zero_lt_succ _) n_a0)))))
            have f37 := (ext_is K28.2 (Nat.zero_lt_succ _) (ext_is K22.2 (Nat.zero_lt_succ _) (ext_is K18.2 (Nat.zero_lt_succ _) (ext_is K15.2.1 (Nat.zero_lt_succ _) n_a0))))
            exact gs_t (pX95_gather_t (ext_tr K15.2.1 (ext_tr K18.2 (ext_tr K22.2 (ext_dL (ext_tr K28.2 (ext_dL (ext_r _)))))))) (gX95_gather_131 k9 _ _ _ _ _ _ _ ⟨K28.1.1, K28.1.2⟩ f36 f37 (((((h.2 c0_0).2 c13_0).2 c14_0).2 c16_0).2.2.2.2.2.2 c33_0))
noncomputable def GX95_gather (a0 : Nat) (a1 : Int32) (M : FM) : Int32 × FM := (FX95_gather fN a0 a1 M).getD (0, M)
def HX95_gather (a0 : Nat) (a1 : Int32) (M : FM) : Prop := ∃ r, FX95_gather fN a0 a1 M = some r ∧ OkZ M r
theorem gX95_gather (a0 : Nat) (a1 : Int32) (M : FM) (h : HX95_gather a0 a1 M) : gd (FX95_gather fN a0 a1 M) (GX95_gather a0 a1 M) (OkZ M) := gd_op h
def kX95_data (k15 : Nat → Int32 → Int64 → Int32 → FM → Option (Int64 × FM)) : (Nat × Int32 × Int64 × Int32 × FM) ⊕ (Int64 × FM) → Option (Int64 × FM)
  | .inl (v0, v1, v2, v3, M') => k15 v0 v1 v2 v3 M'
  | .inr (r) => some r
def pX95_data (M : FM) : (Nat × Int32 × Int64 × Int32 × FM) ⊕ (Int64 × FM) → Prop
  | .inl (_, _, _, _, M') => OkV M M'
  | .inr (r) => OkR M r
theorem pX95_data_t {M M1 : FM} (e : Ext M M1) : ∀ y, pX95_data M1 y → pX95_data M y
  | .inl (_, _, _, _, _), h => ⟨h.1, ext_tr e h.2⟩
  | .inr (r), h => ⟨h.1, ext_tr e h.2⟩
noncomputable def GX95_data_48 (a0 : Nat) (a1 : Int32) (a4 : Int32) (s0 : Int64) (M : FM) : (Nat × Int32 × Int64 × Int32 × FM) ⊕ (Int64 × FM) :=
  let x1 : Int32 := a4 + (Int32.ofInt 1)
  (.inl (a0, a1, s0, x1, M))
theorem gX95_data_48 (k15 : Nat → Int32 → Int64 → Int32 → FM → Option (Int64 × FM)) (a0 : Nat) (a1 : Int32) (a4 : Int32) (s0 : Int64) (M : FM) (T : Ty M) : gs (FX95_data_48 fN k15 a0 a1 a4 s0 M) (GX95_data_48 a0 a1 a4 s0 M) (kX95_data k15) (pX95_data M) := by
  delta FX95_data_48 BX95_data_48
  exact And.intro rfl (And.intro (And.intro T.1 T.2) ((ext_r _)))
noncomputable def GX95_data_11 (a0 : Nat) (a1 : Int32) (s0 : Int64) (M : FM) : (Nat × Int32 × Int64 × Int32 × FM) ⊕ (Int64 × FM) :=
  (.inl (a0, a1, s0, (Int32.ofInt 1), M))
theorem gX95_data_11 (k15 : Nat → Int32 → Int64 → Int32 → FM → Option (Int64 × FM)) (a0 : Nat) (a1 : Int32) (s0 : Int64) (M : FM) (T : Ty M) : gs (FX95_data_11 fN k15 a0 a1 s0 M) (GX95_data_11 a0 a1 s0 M) (kX95_data k15) (pX95_data M) := by
  delta FX95_data_11 BX95_data_11
  exact And.intro rfl (And.intro (And.intro T.1 T.2) ((ext_r _)))
noncomputable def GX95_data_0 (a0 : Nat) (a1 : Int32) (M : FM) : (Nat × Int32 × Int64 × Int32 × FM) ⊕ (Int64 × FM) :=
  fi (a1 = 0) (
    GX95_data_11 a0 a1 (Int64.ofInt 0) M) (
    GX95_data_11 a0 a1 (Int64.ofInt (-1)) M)
theorem gX95_data_0 (k15 : Nat → Int32 → Int64 → Int32 → FM → Option (Int64 × FM)) (a0 : Nat) (a1 : Int32) (M : FM) (T : Ty M) : gs (FX95_data_0 fN k15 a0 a1 M) (GX95_data_0 a0 a1 M) (kX95_data k15) (pX95_data M) := by
  delta FX95_data_0 BX95_data_0
  refine gs_fi (fun c0_0 => ?_) (fun c0_0 => ?_)
  · exact gs_t (pX95_data_t (ext_r _)) (gX95_data_11 k15 _ _ _ _ ⟨T.1, T.2⟩  )
  · exact gs_t (pX95_data_t (ext_r _)) (gX95_data_11 k15 _ _ _ _ ⟨T.1, T.2⟩  )
noncomputable def GX95_data_15 (a0 : Nat) (a1 : Int32) (a2 : Int64) (a4 : Int32) (M : FM) : (Nat × Int32 × Int64 × Int32 × FM) ⊕ (Int64 × FM) :=
  fi ((M.1 339 a0 0) ≤ a4) (
    (.inr (a2, M))) (
    let x1 : Nat := (M.2.2 342 a0 0)
    fi ((M.1 3 x1 a4.toNatClampNeg) = a1) (
      let x2 : Nat := (M.2.2 341 a0 0)
      GX95_data_48 a0 a1 a4 (a2 + (M.2.1 3 x2 a4.toNatClampNeg)) M) (
      GX95_data_48 a0 a1 a4 a2 M))
def HX95_data_15 (a0 : Nat) (a1 : Int32) (a2 : Int64) (a4 : Int32) (M : FM) : Prop := (((M.1 339 a0 0) ≤ a4 → True) ∧ (¬ ((M.1 339 a0 0) ≤ a4) → let x1 : Nat := (M.2.2 342 a0 0); (fm_in M x1 a4 = true ∧ (((M.1 3 x1 a4.toNatClampNeg) = a1 → let x2 : Nat := (M.2.2 341 a0 0); (fm_in M x2 a4 = true ∧ True)) ∧ (¬ ((M.1 3 x1 a4.toNatClampNeg) = a1) → True)))))
theorem gX95_data_15 (k15 : Nat → Int32 → Int64 → Int32 → FM → Option (Int64 × FM)) (a0 : Nat) (a1 : Int32) (a2 : Int64) (a4 : Int32) (M : FM) (T : Ty M) (n_a0 : fm_is M 93 93 a0 = true) (h : HX95_data_15 a0 a1 a2 a4 M) : gs (FX95_data_15 fN k15 a0 a1 a2 a4 M) (GX95_data_15 a0 a1 a2 a4 M) (kX95_data k15) (pX95_data M) := by
  delta FX95_data_15 BX95_data_15
  refine gs_c n_a0 ?_
  refine gs_fi (fun c0_0 => ?_) (fun c0_0 => ?_)
  · exact And.intro rfl (And.intro (And.intro T.1 T.2) ((ext_r _)))
  · refine gs_c n_a0 ?_
    have f4 := (tN_342 T.1 n_a0)
    refine gs_c ⟨f4, (h.2 c0_0).1⟩ ?_
    refine gs_fi (fun c1_0 => ?_) (fun c1_0 => ?_)
    · refine gs_c n_a0 ?_
      have f2 := (tN_341 T.1 n_a0)
      have f3 := ((h.2 c0_0).2.1 c1_0).1
      refine gs_c ⟨f2, f3⟩ ?_
      exact gs_t (pX95_data_t (ext_r _)) (gX95_data_48 k15 _ _ _ _ _ ⟨T.1, T.2⟩  )
    · exact gs_t (pX95_data_t (ext_r _)) (gX95_data_48 k15 _ _ _ _ _ ⟨T.1, T.2⟩  )
noncomputable def GX95_data (a0 : Nat) (a1 : Int32) (M : FM) : Int64 × FM := (FX95_data fN a0 a1 M).getD (0, M)
def HX95_data (a0 : Nat) (a1 : Int32) (M : FM) : Prop := ∃ r, FX95_data fN a0 a1 M = some r ∧ OkR M r
theorem gX95_data (a0 : Nat) (a1 : Int32) (M : FM) (h : HX95_data a0 a1 M) : gd (FX95_data fN a0 a1 M) (GX95_data a0 a1 M) (OkR M) := gd_op h
noncomputable def GX95_areSectors_61 (s0 : Int32) (M : FM) : Int32 × FM :=
  (s0, M)
theorem gX95_areSectors_61 (s0 : Int32) (M : FM) (T : Ty M) (z_s0 : s0 = 0 ∨ s0 = 1) : gd (FX95_areSectors_61 s0 M) (GX95_areSectors_61 s0 M) (OkZ M) := by
  delta FX95_areSectors_61 BX95_areSectors_61
  exact gd_z z_s0 ⟨T.1, T.2⟩ (ext_r _) rfl
noncomputable def GX95_areSectors_60 (M : FM) : Int32 × FM :=
  GX95_areSectors_61 (Int32.ofInt 0) M
theorem gX95_areSectors_60 (M : FM) (T : Ty M) : gd (FX95_areSectors_60 M) (GX95_areSectors_60 M) (OkZ M) := by
  delta FX95_areSectors_60 BX95_areSectors_60
  exact gd_tZ (ext_r _) (gX95_areSectors_61 _ _ ⟨T.1, T.2⟩ fz_0 )
noncomputable def GX95_areSectors_0 (a0 : Nat) (a1 : Int64) (a3 : Int64) (M : FM) : Int32 × FM :=
  fi ((lg_cmp a3 (Int64.ofInt 0)) ≤ 0) (
    GX95_areSectors_60 M) (
    fi (0 < (lg_cmp a3 (Int64.ofInt 32768))) (
      GX95_areSectors_60 M) (
      fi ((lg_cmp (a3 - a3 / (Int64.ofInt 512) * (Int64.ofInt 512)) (Int64.ofInt 0)) = 0) (
        fi ((lg_cmp a1 (Int64.ofInt 0)) < 0) (
          GX95_areSectors_60 M) (
          fi (0 ≤ (lg_cmp a1 ((M.1 325 a0 0).toInt64))) (
            GX95_areSectors_60 M) (
            fi (0 < (lg_cmp (a3 / (Int64.ofInt 512)) ((M.1 325 a0 0).toInt64 - a1))) (
              GX95_areSectors_60 M) (
              GX95_areSectors_61 (Int32.ofInt 1) M)))) (
        GX95_areSectors_60 M)))
theorem gX95_areSectors_0 (a0 : Nat) (a1 : Int64) (a3 : Int64) (M : FM) (T : Ty M) (n_a0 : fm_is M 93 93 a0 = true) : gd (FX95_areSectors_0 a0 a1 a3 M) (GX95_areSectors_0 a0 a1 a3 M) (OkZ M) := by
  delta FX95_areSectors_0 BX95_areSectors_0
  refine gd_fi (fun c0_0 => ?_) (fun c0_0 => ?_)
  · exact gd_tZ (ext_r _) (gX95_areSectors_60  _ ⟨T.1, T.2⟩  )
  · refine gd_fi (fun c1_0 => ?_) (fun c1_0 => ?_)
    · exact gd_tZ (ext_r _) (gX95_areSectors_60  _ ⟨T.1, T.2⟩  )
    · refine gd_n (by decide) ?_
      refine gd_fi (fun c2_0 => ?_) (fun c2_0 => ?_)
      · refine gd_fi (fun c3_0 => ?_) (fun c3_0 => ?_)
        · exact gd_tZ (ext_r _) (gX95_areSectors_60  _ ⟨T.1, T.2⟩  )
        · refine gd_c n_a0 ?_
          refine gd_fi (fun c4_0 => ?_) (fun c4_0 => ?_)
          · exact gd_tZ (ext_r _) (gX95_areSectors_60  _ ⟨T.1, T.2⟩  )
          · refine gd_n (by decide) ?_
            refine gd_c n_a0 ?_
            refine gd_fi (fun c5_0 => ?_) (fun c5_0 => ?_)
            · exact gd_tZ (ext_r _) (gX95_areSectors_60  _ ⟨T.1, T.2⟩  )
            · exact gd_tZ (ext_r _) (gX95_areSectors_61 _ _ ⟨T.1, T.2⟩ fz_1 )
      · exact gd_tZ (ext_r _) (gX95_areSectors_60  _ ⟨T.1, T.2⟩  )
noncomputable def GX95_areSectors (a0 : Nat) (a1 : Int64) (a3 : Int64) (M : FM) : Int32 × FM := GX95_areSectors_0 a0 a1 a3 M
theorem gX95_areSectors (a0 : Nat) (a1 : Int64) (a3 : Int64) (M : FM) (T : Ty M) (n_a0 : fm_is M 93 93 a0 = true) : gd (FX95_areSectors a0 a1 a3 M) (GX95_areSectors a0 a1 a3 M) (OkZ M) := gX95_areSectors_0 a0 a1 a3 M T n_a0 
def kX95_beginData (k10 : Nat → Int32 → FM → Option (FM)) : (Nat × Int32 × FM) ⊕ (FM) → Option (FM)
  | .inl (v0, v1, M') => k10 v0 v1 M'
  | .inr (r) => some r
def pX95_beginData (M : FM) : (Nat × Int32 × FM) ⊕ (FM) → Prop
  | .inl (_, _, M') => OkV M M'
  | .inr (r) => OkV M r
theorem pX95_beginData_t {M M1 : FM} (e : Ext M M1) : ∀ y, pX95_beginData M1 y → pX95_beginData M y
  | .inl (_, _, _), h => ⟨h.1, ext_tr e h.2⟩
  | .inr (r), h => ⟨h.1, ext_tr e h.2⟩
noncomputable def GX95_beginData_0 (a0 : Nat) (a1 : Int32) (M : FM) : (Nat × Int32 × FM) ⊕ (FM) :=
  let M1 : FM := fm_sI M 343 a0 0 (Int32.ofInt 1)
  let M2 : FM := fm_sL M1 344 a0 0 (Int64.ofInt 0)
  (.inl (a0, a1, M2))
theorem gX95_beginData_0 (k10 : Nat → Int32 → FM → Option (FM)) (a0 : Nat) (a1 : Int32) (M : FM) (T : Ty M) (n_a0 : fm_is M 93 93 a0 = true) : gs (FX95_beginData_0 fN k10 a0 a1 M) (GX95_beginData_0 a0 a1 M) (kX95_beginData k10) (pX95_beginData M) := by
  delta FX95_beginData_0 BX95_beginData_0
  refine gs_c n_a0 ?_
  refine gs_c n_a0 ?_
  exact And.intro rfl (And.intro (And.intro T.1 (tyb_sI (f := 343) rfl T.2)) ((ext_dI (ext_dL (ext_r _)))))
noncomputable def GX95_beginData_10 (a0 : Nat) (a1 : Int32) (M : FM) : (Nat × Int32 × FM) ⊕ (FM) :=
  let x1 : Int32 := (M.1 343 a0 0)
  let x2 : Nat := (M.2.2 342 a0 0)
  fi ((M.1 3 x2 x1.toNatClampNeg) = a1) (
    (.inr M)) (
    let M3 : FM := fm_sI M 343 a0 0 ((M.1 343 a0 0) + (Int32.ofInt 1))
    (.inl (a0, a1, M3)))
def HX95_beginData_10 (a0 : Nat) (a1 : Int32) (M : FM) : Prop := let x1 : Int32 := (M.1 343 a0 0); let x2 : Nat := (M.2.2 342 a0 0); (fm_in M x2 x1 = true ∧ True)
theorem gX95_beginData_10 (k10 : Nat → Int32 → FM → Option (FM)) (a0 : Nat) (a1 : Int32) (M : FM) (T : Ty M) (n_a0 : fm_is M 93 93 a0 = true) (h : HX95_beginData_10 a0 a1 M) : gs (FX95_beginData_10 fN k10 a0 a1 M) (GX95_beginData_10 a0 a1 M) (kX95_beginData k10) (pX95_beginData M) := by
  delta FX95_beginData_10 BX95_beginData_10
  refine gs_c n_a0 ?_
  refine gs_c n_a0 ?_
  have f1 := (tN_342 T.1 n_a0)
  refine gs_c ⟨f1, h.1⟩ ?_
  refine gs_fi (fun c0_0 => ?_) (fun c0_0 => ?_)
  · exact And.intro rfl (And.intro (And.intro T.1 T.2) ((ext_r _)))
  · refine gs_c n_a0 ?_
    refine gs_c n_a0 ?_
    exact And.intro rfl (And.intro (And.intro T.1 (tyb_sI (f := 343) rfl T.2)) ((ext_dI (ext_r _))))
noncomputable def GX95_beginData (a0 : Nat) (a1 : Int32) (M : FM) : FM := (FX95_beginData fN a0 a1 M).getD M
def HX95_beginData (a0 : Nat) (a1 : Int32) (M : FM) : Prop := ∃ r, FX95_beginData fN a0 a1 M = some r ∧ OkV M r
theorem gX95_beginData (a0 : Nat) (a1 : Int32) (M : FM) (h : HX95_beginData a0 a1 M) : gd (FX95_beginData fN a0 a1 M) (GX95_beginData a0 a1 M) (OkV M) := gd_op h
def kX95_nextByte (k0 : Nat → FM → Option (Int64 × FM)) : (Nat × FM) ⊕ (Int64 × FM) → Option (Int64 × FM)
  | .inl (v0, M') => k0 v0 M'
  | .inr (r) => some r
def pX95_nextByte (M : FM) : (Nat × FM) ⊕ (Int64 × FM) → Prop
  | .inl (_, M') => OkV M M'
  | .inr (r) => OkR M r
theorem pX95_nextByte_t {M M1 : FM} (e : Ext M M1) : ∀ y, pX95_nextByte M1 y → pX95_nextByte M y
  | .inl (_, _), h => ⟨h.1, ext_tr e h.2⟩
  | .inr (r), h => ⟨h.1, ext_tr e h.2⟩
noncomputable def GX95_nextByte_0 (a0 : Nat) (M : FM) : (Nat × FM) ⊕ (Int64 × FM) :=
  let x1 : Int32 := (M.1 343 a0 0)
  let x2 : Nat := (M.2.2 341 a0 0)
  fi ((lg_cmp (M.2.1 344 a0 0) (M.2.1 3 x2 x1.toNatClampNeg)) = 0) (
    let M3 : FM := fm_sI M 343 a0 0 ((M.1 343 a0 0) + (Int32.ofInt 1))
    let M4 : FM := fm_sL M3 344 a0 0 (Int64.ofInt 0)
    (.inl (a0, M4))) (
    let M5 : FM := fm_sL M 344 a0 0 ((M.2.1 344 a0 0) + (Int64.ofInt 1))
    let x6 : Int32 := (M5.1 343 a0 0)
    let x7 : Nat := (M5.2.2 340 a0 0)
    (.inr ((((M5.2.1 3 x7 x6.toNatClampNeg) + (M5.2.1 344 a0 0)) - (Int64.ofInt 1)), M5)))
def HX95_nextByte_0 (a0 : Nat) (M : FM) : Prop := let x1 : Int32 := (M.1 343 a0 0); let x2 : Nat := (M.2.2 341 a0 0); (fm_in M x2 x1 = true ∧ (((lg_cmp (M.2.1 344 a0 0) (M.2.1 3 x2 x1.toNatClampNeg)) = 0 → True) ∧ (¬ ((lg_cmp (M.2.1 344 a0 0) (M.2.1 3 x2 x1.toNatClampNeg)) = 0) → let M5 : FM := fm_sL M 344 a0 0 ((M.2.1 344 a0 0) + (Int64.ofInt 1)); let x6 : Int32 := (M5.1 343 a0 0); let x7 : Nat := (M5.2.2 340 a0 0); (fm_in M5 x7 x6 = true ∧ True))))
theorem gX95_nextByte_0 (k0 : Nat → FM → Option (Int64 × FM)) (a0 : Nat) (M : FM) (T : Ty M) (n_a0 : fm_is M 93 93 a0 = true) (h : HX95_nextByte_0 a0 M) : gs (FX95_nextByte_0 fN k0 a0 M) (GX95_nextByte_0 a0 M) (kX95_nextByte k0) (pX95_nextByte M) := by
  delta FX95_nextByte_0 BX95_nextByte_0
  refine gs_c n_a0 ?_
  refine gs_c n_a0 ?_
  refine gs_c n_a0 ?_
  have f2 := (tN_341 T.1 n_a0)
  refine gs_c ⟨f2, h.1⟩ ?_
  refine gs_fi (fun c0_0 => ?_) (fun c0_0 => ?_)
  · refine gs_c n_a0 ?_
    refine gs_c n_a0 ?_
    refine gs_c n_a0 ?_
    exact And.intro rfl (And.intro (And.intro T.1 (tyb_sI (f := 343) rfl T.2)) ((ext_dI (ext_dL (ext_r _)))))
  · refine gs_c n_a0 ?_
    refine gs_c n_a0 ?_
    refine gs_c n_a0 ?_
    refine gs_c n_a0 ?_
    have f1 := (tN_340 T.1 n_a0)
    refine gs_c ⟨f1, (h.2.2 c0_0).1⟩ ?_
    refine gs_c n_a0 ?_
    exact And.intro rfl (And.intro (And.intro T.1 T.2) ((ext_dL (ext_r _))))
noncomputable def GX95_nextByte (a0 : Nat) (M : FM) : Int64 × FM := (FX95_nextByte fN a0 M).getD (0, M)
def HX95_nextByte (a0 : Nat) (M : FM) : Prop := ∃ r, FX95_nextByte fN a0 M = some r ∧ OkR M r
theorem gX95_nextByte (a0 : Nat) (M : FM) (h : HX95_nextByte a0 M) : gd (FX95_nextByte fN a0 M) (GX95_nextByte a0 M) (OkR M) := gd_op h
noncomputable def GX95_byteOf_0 (a0 : Nat) (a1 : Int32) (M : FM) : Int32 × FM :=
  let x1 : Int32 := (a1 / (Int32.ofInt 8))
  (((((M.2.1 3 a0 x1.toNatClampNeg).toUInt64 >>> (((Int32.ofInt 8) * (a1 - a1 / (Int32.ofInt 8) * (Int32.ofInt 8))).toInt64.toUInt64 &&& Int64.toUInt64 63)).toInt64).toInt32 &&& (Int32.ofInt 255)), M)
def HX95_byteOf_0 (a0 : Nat) (a1 : Int32) (M : FM) : Prop := let x1 : Int32 := (a1 / (Int32.ofInt 8)); (fm_in M a0 x1 = true ∧ True)
theorem gX95_byteOf_0 (a0 : Nat) (a1 : Int32) (M : FM) (T : Ty M) (n_a0 : fm_is M 902 902 a0 = true) (h : HX95_byteOf_0 a0 a1 M) : gd (FX95_byteOf_0 a0 a1 M) (GX95_byteOf_0 a0 a1 M) (OkR M) := by
  delta FX95_byteOf_0 BX95_byteOf_0
  refine gd_n (by decide) ?_
  refine gd_c ⟨n_a0, h.1⟩ ?_
  refine gd_n (by decide) ?_
  exact ⟨rfl, ⟨T.1, T.2⟩, (ext_r _)⟩
noncomputable def GX95_byteOf (a0 : Nat) (a1 : Int32) (M : FM) : Int32 × FM := GX95_byteOf_0 a0 a1 M
def HX95_byteOf (a0 : Nat) (a1 : Int32) (M : FM) : Prop := HX95_byteOf_0 a0 a1 M
theorem gX95_byteOf (a0 : Nat) (a1 : Int32) (M : FM) (T : Ty M) (n_a0 : fm_is M 902 902 a0 = true) (h : HX95_byteOf a0 a1 M) : gd (FX95_byteOf a0 a1 M) (GX95_byteOf a0 a1 M) (OkR M) := gX95_byteOf_0 a0 a1 M T n_a0 h
def kX95_put (k3 : Nat → Int64 → Int32 → Int64 → Int32 → FM → Option (FM)) : (Nat × Int64 × Int32 × Int64 × Int32 × FM) ⊕ (FM) → Option (FM)
  | .inl (v0, v1, v2, v3, v4, M') => k3 v0 v1 v2 v3 v4 M'
  | .inr (r) => some r
def pX95_put (M : FM) : (Nat × Int64 × Int32 × Int64 × Int32 × FM) ⊕ (FM) → Prop
  | .inl (_, _, _, _, _, M') => OkV M M'
  | .inr (r) => OkV M r
theorem pX95_put_t {M M1 : FM} (e : Ext M M1) : ∀ y, pX95_put M1 y → pX95_put M y
  | .inl (_, _, _, _, _, _), h => ⟨h.1, ext_tr e h.2⟩
  | .inr (r), h => ⟨h.1, ext_tr e h.2⟩
noncomputable def GX95_put_0 (a0 : Nat) (a1 : Int64) (a3 : Int32) (a4 : Int64) (M : FM) : (Nat × Int64 × Int32 × Int64 × Int32 × FM) ⊕ (FM) :=
  (.inl (a0, a1, a3, a4, (Int32.ofInt 0), M))
theorem gX95_put_0 (k3 : Nat → Int64 → Int32 → Int64 → Int32 → FM → Option (FM)) (a0 : Nat) (a1 : Int64) (a3 : Int32) (a4 : Int64) (M : FM) (T : Ty M) : gs (FX95_put_0 fN k3 a0 a1 a3 a4 M) (GX95_put_0 a0 a1 a3 a4 M) (kX95_put k3) (pX95_put M) := by
  delta FX95_put_0 BX95_put_0
  exact And.intro rfl (And.intro (And.intro T.1 T.2) ((ext_r _)))
noncomputable def GX95_put_3 (a0 : Nat) (a1 : Int64) (a3 : Int32) (a4 : Int64) (a6 : Int32) (M : FM) : (Nat × Int64 × Int32 × Int64 × Int32 × FM) ⊕ (FM) :=
  fi (a3 ≤ a6) (
    (.inr M)) (
    let x1 : Nat := (M.2.2 326 a0 0)
    let M2 : FM := GX93_put x1 (a1 + a6.toInt64) (((a4.toUInt64 >>> (((Int32.ofInt 8) * a6).toInt64.toUInt64 &&& Int64.toUInt64 63)).toInt64).toInt32) M
    let x3 : Int32 := a6 + (Int32.ofInt 1)
    (.inl (a0, a1, a3, a4, x3, M2)))
def HX95_put_3 (a0 : Nat) (a1 : Int64) (a3 : Int32) (a4 : Int64) (a6 : Int32) (M : FM) : Prop := ((a3 ≤ a6 → True) ∧ (¬ (a3 ≤ a6) → let x1 : Nat := (M.2.2 326 a0 0); (HX93_put x1 (a1 + a6.toInt64) (((a4.toUInt64 >>> (((Int32.ofInt 8) * a6).toInt64.toUInt64 &&& Int64.toUInt64 63)).toInt64).toInt32) M ∧ True)))
theorem gX95_put_3 (k3 : Nat → Int64 → Int32 → Int64 → Int32 → FM → Option (FM)) (a0 : Nat) (a1 : Int64) (a3 : Int32) (a4 : Int64) (a6 : Int32) (M : FM) (T : Ty M) (n_a0 : fm_is M 93 93 a0 = true) (h : HX95_put_3 a0 a1 a3 a4 a6 M) : gs (FX95_put_3 fN k3 a0 a1 a3 a4 a6 M) (GX95_put_3 a0 a1 a3 a4 a6 M) (kX95_put k3) (pX95_put M) := by
  delta FX95_put_3 BX95_put_3
  refine gs_fi (fun c0_0 => ?_) (fun c0_0 => ?_)
  · exact And.intro rfl (And.intro (And.intro T.1 T.2) ((ext_r _)))
  · refine gs_c n_a0 ?_
    have f1 := (tN_326 T.1 n_a0)
    refine gs_c f1 ?_
    refine gs_b (gX93_put _ _ _ _ (h.2 c0_0).1) (fun K2 => ?_)
    exact And.intro rfl (And.intro (And.intro K2.1.1 K2.1.2) K2.2)
noncomputable def GX95_put (a0 : Nat) (a1 : Int64) (a2 : Int32) (a3 : Int64) (M : FM) : FM := (FX95_put fN a0 a1 a2 a3 M).getD M
def HX95_put (a0 : Nat) (a1 : Int64) (a2 : Int32) (a3 : Int64) (M : FM) : Prop := ∃ r, FX95_put fN a0 a1 a2 a3 M = some r ∧ OkV M r
theorem gX95_put (a0 : Nat) (a1 : Int64) (a2 : Int32) (a3 : Int64) (M : FM) (h : HX95_put a0 a1 a2 a3 M) : gd (FX95_put fN a0 a1 a2 a3 M) (GX95_put a0 a1 a2 a3 M) (OkV M) := gd_op h
noncomputable def GX95_putByte_0 (a0 : Nat) (a1 : Int32) (a2 : Int32) (M : FM) : FM :=
  let x1 : Int32 := ((Int32.ofInt 8) * (a1 - a1 / (Int32.ofInt 8) * (Int32.ofInt 8)))
  let x2 : Int32 := (a1 / (Int32.ofInt 8))
  let x3 : Int32 := (a1 / (Int32.ofInt 8))
  let M4 : FM := fm_sL M 3 a0 x3.toNatClampNeg (((M.2.1 3 a0 x2.toNatClampNeg) &&& (((Int64.ofInt 255) <<< (x1.toInt64 &&& 63)) ^^^ (Int64.ofInt (-1)))) ||| ((a2.toInt64 &&& (Int64.ofInt 255)) <<< (x1.toInt64 &&& 63)))
  M4
def HX95_putByte_0 (a0 : Nat) (a1 : Int32) (a2 : Int32) (M : FM) : Prop := let x1 : Int32 := ((Int32.ofInt 8) * (a1 - a1 / (Int32.ofInt 8) * (Int32.ofInt 8))); let x2 : Int32 := (a1 / (Int32.ofInt 8)); (fm_in M a0 x2 = true ∧ let x3 : Int32 := (a1 / (Int32.ofInt 8)); (fm_in M a0 x3 = true ∧ True))
theorem gX95_putByte_0 (a0 : Nat) (a1 : Int32) (a2 : Int32) (M : FM) (T : Ty M) (n_a0 : fm_is M 902 902 a0 = true) (h : HX95_putByte_0 a0 a1 a2 M) : gd (FX95_putByte_0 a0 a1 a2 M) (GX95_putByte_0 a0 a1 a2 M) (OkV M) := by
  delta FX95_putByte_0 BX95_putByte_0
  refine gd_n (by decide) ?_
  refine gd_n (by decide) ?_
  refine gd_n (by decide) ?_
  refine gd_c ⟨n_a0, h.1⟩ ?_
  refine gd_c ⟨n_a0, h.2.1⟩ ?_
  exact ⟨rfl, ⟨T.1, T.2⟩, (ext_dL (ext_r _))⟩
noncomputable def GX95_putByte (a0 : Nat) (a1 : Int32) (a2 : Int32) (M : FM) : FM := GX95_putByte_0 a0 a1 a2 M
def HX95_putByte (a0 : Nat) (a1 : Int32) (a2 : Int32) (M : FM) : Prop := HX95_putByte_0 a0 a1 a2 M
theorem gX95_putByte (a0 : Nat) (a1 : Int32) (a2 : Int32) (M : FM) (T : Ty M) (n_a0 : fm_is M 902 902 a0 = true) (h : HX95_putByte a0 a1 a2 M) : gd (FX95_putByte a0 a1 a2 M) (GX95_putByte a0 a1 a2 M) (OkV M) := gX95_putByte_0 a0 a1 a2 M T n_a0 h
def kX95_request (k93 : Nat → Int64 → Int32 → Int64 → Int64 → FM → Option (Int64 × FM)) (k175 : Nat → Int64 → Int64 → Int32 → Int64 → Int64 → FM → Option (Int64 × FM)) (k272 : Nat → Int32 → Int64 → Int64 → FM → Option (Int64 × FM)) : (Nat × Int64 × Int32 × Int64 × Int64 × FM) ⊕ (Nat × Int64 × Int64 × Int32 × Int64 × Int64 × FM) ⊕ (Nat × Int32 × Int64 × Int64 × FM) ⊕ (Int64 × FM) → Option (Int64 × FM)
  | .inl (v0, v1, v2, v3, v4, M') => k93 v0 v1 v2 v3 v4 M'
  | .inr (.inl (v0, v1, v2, v3, v4, v5, M')) => k175 v0 v1 v2 v3 v4 v5 M'
  | .inr (.inr (.inl (v0, v1, v2, v3, M'))) => k272 v0 v1 v2 v3 M'
  | .inr (.inr (.inr (r))) => some r
def pX95_request (M : FM) : (Nat × Int64 × Int32 × Int64 × Int64 × FM) ⊕ (Nat × Int64 × Int64 × Int32 × Int64 × Int64 × FM) ⊕ (Nat × Int32 × Int64 × Int64 × FM) ⊕ (Int64 × FM) → Prop
  | .inl (_, _, _, _, _, M') => OkV M M'
  | .inr (.inl (_, _, _, _, _, _, M')) => OkV M M'
  | .inr (.inr (.inl (_, _, _, _, M'))) => OkV M M'
  | .inr (.inr (.inr (r))) => OkR M r
theorem pX95_request_t {M M1 : FM} (e : Ext M M1) : ∀ y, pX95_request M1 y → pX95_request M y
  | .inl (_, _, _, _, _, _), h => ⟨h.1, ext_tr e h.2⟩
  | .inr (.inl (_, _, _, _, _, _, _)), h => ⟨h.1, ext_tr e h.2⟩
  | .inr (.inr (.inl (_, _, _, _, _))), h => ⟨h.1, ext_tr e h.2⟩
  | .inr (.inr (.inr (r))), h => ⟨h.1, ext_tr e h.2⟩
noncomputable def GX95_request_384 (a0 : Nat) (a9 : Int32) (a10 : Int64) (M : FM) : (Nat × Int64 × Int32 × Int64 × Int64 × FM) ⊕ (Nat × Int64 × Int64 × Int32 × Int64 × Int64 × FM) ⊕ (Nat × Int32 × Int64 × Int64 × FM) ⊕ (Int64 × FM) :=
  let x1 : Int32 := ((M.1 339 a0 0) - (Int32.ofInt 1))
  let x2 : Nat := (M.2.2 340 a0 0)
  let x3 : Int32 := ((M.1 339 a0 0) - (Int32.ofInt 1))
  let x4 : Nat := (M.2.2 341 a0 0)
  let M5 : FM := GX95_put a0 (((M.2.1 3 x2 x1.toNatClampNeg) + (M.2.1 3 x4 x3.toNatClampNeg)) - (Int64.ofInt 1)) (Int32.ofInt 1) a9.toInt64 M
  (.inr (.inr (.inr ((a10 + (Int64.ofInt 1)), M5))))
def HX95_request_384 (a0 : Nat) (a9 : Int32) (a10 : Int64) (M : FM) : Prop := let x1 : Int32 := ((M.1 339 a0 0) - (Int32.ofInt 1)); let x2 : Nat := (M.2.2 340 a0 0); (fm_in M x2 x1 = true ∧ let x3 : Int32 := ((M.1 339 a0 0) - (Int32.ofInt 1)); let x4 : Nat := (M.2.2 341 a0 0); (fm_in M x4 x3 = true ∧ (HX95_put a0 (((M.2.1 3 x2 x1.toNatClampNeg) + (M.2.1 3 x4 x3.toNatClampNeg)) - (Int64.ofInt 1)) (Int32.ofInt 1) a9.toInt64 M ∧ True)))
theorem gX95_request_384 (k93 : Nat → Int64 → Int32 → Int64 → Int64 → FM → Option (Int64 × FM)) (k175 : Nat → Int64 → Int64 → Int32 → Int64 → Int64 → FM → Option (Int64 × FM)) (k272 : Nat → Int32 → Int64 → Int64 → FM → Option (Int64 × FM)) (a0 : Nat) (a9 : Int32) (a10 : Int64) (M : FM) (T : Ty M) (n_a0 : fm_is M 93 93 a0 = true) (h : HX95_request_384 a0 a9 a10 M) : gs (FX95_request_384 fN k93 k175 k272 a0 a9 a10 M) (GX95_request_384 a0 a9 a10 M) (kX95_request k93 k175 k272) (pX95_request M) := by
  delta FX95_request_384 BX95_request_384
  refine gs_c n_a0 ?_
  refine gs_c n_a0 ?_
  have f2 := (tN_340 T.1 n_a0)
  refine gs_c ⟨f2, h.1⟩ ?_
  refine gs_c n_a0 ?_
  refine gs_c n_a0 ?_
  have f1 := (tN_341 T.1 n_a0)
  refine gs_c ⟨f1, h.2.1⟩ ?_
  refine gs_c n_a0 ?_
  refine gs_b (gX95_put _ _ _ _ _ h.2.2.1) (fun K0 => ?_)
  exact And.intro rfl (And.intro (And.intro K0.1.1 K0.1.2) K0.2)
noncomputable def GX95_request_358 (a0 : Nat) (a9 : Int32) (a10 : Int64) (a12 : Int64) (s0 : Nat) (s1 : Int64) (s2 : Int32) (s3 : Int64) (M : FM) : (Nat × Int64 × Int32 × Int64 × Int64 × FM) ⊕ (Nat × Int64 × Int64 × Int32 × Int64 × Int64 × FM) ⊕ (Nat × Int32 × Int64 × Int64 × FM) ⊕ (Int64 × FM) :=
  let M1 : FM := GX95_put s0 s1 s2 s3 M
  let x2 : Int64 := (a12 + (Int64.ofInt 1))
  (.inr (.inr (.inl (a0, a9, a10, x2, M1))))
def HX95_request_358 (a0 : Nat) (a9 : Int32) (a10 : Int64) (a12 : Int64) (s0 : Nat) (s1 : Int64) (s2 : Int32) (s3 : Int64) (M : FM) : Prop := (HX95_put s0 s1 s2 s3 M ∧ True)
theorem gX95_request_358 (k93 : Nat → Int64 → Int32 → Int64 → Int64 → FM → Option (Int64 × FM)) (k175 : Nat → Int64 → Int64 → Int32 → Int64 → Int64 → FM → Option (Int64 × FM)) (k272 : Nat → Int32 → Int64 → Int64 → FM → Option (Int64 × FM)) (a0 : Nat) (a9 : Int32) (a10 : Int64) (a12 : Int64) (s0 : Nat) (s1 : Int64) (s2 : Int32) (s3 : Int64) (M : FM) (T : Ty M) (n_s0 : fm_is M 93 93 s0 = true) (h : HX95_request_358 a0 a9 a10 a12 s0 s1 s2 s3 M) : gs (FX95_request_358 fN k93 k175 k272 a0 a9 a10 a12 s0 s1 s2 s3 M) (GX95_request_358 a0 a9 a10 a12 s0 s1 s2 s3 M) (kX95_request k93 k175 k272) (pX95_request M) := by
  delta FX95_request_358 BX95_request_358
  refine gs_c n_s0 ?_
  refine gs_b (gX95_put _ _ _ _ _ h.1) (fun K0 => ?_)
  exact And.intro rfl (And.intro (And.intro K0.1.1 K0.1.2) K0.2)
noncomputable def GX95_request_262 (a0 : Nat) (a9 : Int32) (s0 : Int64) (M : FM) : (Nat × Int64 × Int32 × Int64 × Int64 × FM) ⊕ (Nat × Int64 × Int64 × Int32 × Int64 × Int64 × FM) ⊕ (Nat × Int32 × Int64 × Int64 × FM) ⊕ (Int64 × FM) :=
  let M1 : FM := GX95_beginData a0 (Int32.ofInt 1) M
  (.inr (.inr (.inl (a0, a9, s0, (Int64.ofInt 0), M1))))
def HX95_request_262 (a0 : Nat) (a9 : Int32) (s0 : Int64) (M : FM) : Prop := (HX95_beginData a0 (Int32.ofInt 1) M ∧ True)
theorem gX95_request_262 (k93 : Nat → Int64 → Int32 → Int64 → Int64 → FM → Option (Int64 × FM)) (k175 : Nat → Int64 → Int64 → Int32 → Int64 → Int64 → FM → Option (Int64 × FM)) (k272 : Nat → Int32 → Int64 → Int64 → FM → Option (Int64 × FM)) (a0 : Nat) (a9 : Int32) (s0 : Int64) (M : FM) (T : Ty M) (n_a0 : fm_is M 93 93 a0 = true) (h : HX95_request_262 a0 a9 s0 M) : gs (FX95_request_262 fN k93 k175 k272 a0 a9 s0 M) (GX95_request_262 a0 a9 s0 M) (kX95_request k93 k175 k272) (pX95_request M) := by
  delta FX95_request_262 BX95_request_262
  refine gs_c n_a0 ?_
  refine gs_b (gX95_beginData _ _ _ h.1) (fun K0 => ?_)
  exact And.intro rfl (And.intro (And.intro K0.1.1 K0.1.2) K0.2)
noncomputable def GX95_request_160 (a0 : Nat) (a3 : Int64) (a7 : Int64) (a10 : Int64) (s0 : Int32) (M : FM) : (Nat × Int64 × Int32 × Int64 × Int64 × FM) ⊕ (Nat × Int64 × Int64 × Int32 × Int64 × Int64 × FM) ⊕ (Nat × Int32 × Int64 × Int64 × FM) ⊕ (Int64 × FM) :=
  fi (s0 = 0) (
    let M1 : FM := GX95_beginData a0 (Int32.ofInt 0) M
    (.inr (.inl (a0, a3, a7, s0, a10, (Int64.ofInt 0), M1)))) (
    GX95_request_384 a0 s0 a10 M)
def HX95_request_160 (a0 : Nat) (a3 : Int64) (a7 : Int64) (a10 : Int64) (s0 : Int32) (M : FM) : Prop := ((s0 = 0 → (HX95_beginData a0 (Int32.ofInt 0) M ∧ True)) ∧ (¬ (s0 = 0) → HX95_request_384 a0 s0 a10 M))
theorem gX95_request_160 (k93 : Nat → Int64 → Int32 → Int64 → Int64 → FM → Option (Int64 × FM)) (k175 : Nat → Int64 → Int64 → Int32 → Int64 → Int64 → FM → Option (Int64 × FM)) (k272 : Nat → Int32 → Int64 → Int64 → FM → Option (Int64 × FM)) (a0 : Nat) (a3 : Int64) (a7 : Int64) (a10 : Int64) (s0 : Int32) (M : FM) (T : Ty M) (n_a0 : fm_is M 93 93 a0 = true) (h : HX95_request_160 a0 a3 a7 a10 s0 M) : gs (FX95_request_160 fN k93 k175 k272 a0 a3 a7 a10 s0 M) (GX95_request_160 a0 a3 a7 a10 s0 M) (kX95_request k93 k175 k272) (pX95_request M) := by
  delta FX95_request_160 BX95_request_160
  refine gs_fi (fun c0_0 => ?_) (fun c0_0 => ?_)
  · refine gs_c n_a0 ?_
    refine gs_b (gX95_beginData _ _ _ (h.1 c0_0).1) (fun K1 => ?_)
    exact And.intro rfl (And.intro (And.intro K1.1.1 K1.1.2) K1.2)
  · exact gs_t (pX95_request_t (ext_r _)) (gX95_request_384 k93 k175 k272 _ _ _ _ ⟨T.1, T.2⟩ n_a0 (h.2 c0_0))
noncomputable def GX95_request_83 (a0 : Nat) (a3 : Int64) (a9 : Int32) (s0 : Int64) (M : FM) : (Nat × Int64 × Int32 × Int64 × Int64 × FM) ⊕ (Nat × Int64 × Int64 × Int32 × Int64 × Int64 × FM) ⊕ (Nat × Int32 × Int64 × Int64 × FM) ⊕ (Int64 × FM) :=
  let M1 : FM := GX95_beginData a0 (Int32.ofInt 1) M
  (.inl (a0, a3, a9, s0, (Int64.ofInt 0), M1))
def HX95_request_83 (a0 : Nat) (a3 : Int64) (a9 : Int32) (s0 : Int64) (M : FM) : Prop := (HX95_beginData a0 (Int32.ofInt 1) M ∧ True)
theorem gX95_request_83 (k93 : Nat → Int64 → Int32 → Int64 → Int64 → FM → Option (Int64 × FM)) (k175 : Nat → Int64 → Int64 → Int32 → Int64 → Int64 → FM → Option (Int64 × FM)) (k272 : Nat → Int32 → Int64 → Int64 → FM → Option (Int64 × FM)) (a0 : Nat) (a3 : Int64) (a9 : Int32) (s0 : Int64) (M : FM) (T : Ty M) (n_a0 : fm_is M 93 93 a0 = true) (h : HX95_request_83 a0 a3 a9 s0 M) : gs (FX95_request_83 fN k93 k175 k272 a0 a3 a9 s0 M) (GX95_request_83 a0 a3 a9 s0 M) (kX95_request k93 k175 k272) (pX95_request M) := by
  delta FX95_request_83 BX95_request_83
  refine gs_c n_a0 ?_
  refine gs_b (gX95_beginData _ _ _ h.1) (fun K0 => ?_)
  exact And.intro rfl (And.intro (And.intro K0.1.1 K0.1.2) K0.2)
noncomputable def GX95_request_70 (a0 : Nat) (a3 : Int64) (a5 : Int64) (s0 : Int32) (M : FM) : (Nat × Int64 × Int32 × Int64 × Int64 × FM) ⊕ (Nat × Int64 × Int64 × Int32 × Int64 × Int64 × FM) ⊕ (Nat × Int32 × Int64 × Int64 × FM) ⊕ (Int64 × FM) :=
  fi (s0 = 0) (
    GX95_request_83 a0 a3 s0 a5 M) (
    GX95_request_83 a0 a3 s0 (Int64.ofInt 0) M)
def HX95_request_70 (a0 : Nat) (a3 : Int64) (a5 : Int64) (s0 : Int32) (M : FM) : Prop := ((s0 = 0 → HX95_request_83 a0 a3 s0 a5 M) ∧ (¬ (s0 = 0) → HX95_request_83 a0 a3 s0 (Int64.ofInt 0) M))
theorem gX95_request_70 (k93 : Nat → Int64 → Int32 → Int64 → Int64 → FM → Option (Int64 × FM)) (k175 : Nat → Int64 → Int64 → Int32 → Int64 → Int64 → FM → Option (Int64 × FM)) (k272 : Nat → Int32 → Int64 → Int64 → FM → Option (Int64 × FM)) (a0 : Nat) (a3 : Int64) (a5 : Int64) (s0 : Int32) (M : FM) (T : Ty M) (n_a0 : fm_is M 93 93 a0 = true) (h : HX95_request_70 a0 a3 a5 s0 M) : gs (FX95_request_70 fN k93 k175 k272 a0 a3 a5 s0 M) (GX95_request_70 a0 a3 a5 s0 M) (kX95_request k93 k175 k272) (pX95_request M) := by
  delta FX95_request_70 BX95_request_70
  refine gs_fi (fun c0_0 => ?_) (fun c0_0 => ?_)
  · exact gs_t (pX95_request_t (ext_r _)) (gX95_request_83 k93 k175 k272 _ _ _ _ _ ⟨T.1, T.2⟩ n_a0 (h.1 c0_0))
  · exact gs_t (pX95_request_t (ext_r _)) (gX95_request_83 k93 k175 k272 _ _ _ _ _ ⟨T.1, T.2⟩ n_a0 (h.2 c0_0))
noncomputable def GX95_request_0 (a0 : Nat) (M : FM) : (Nat × Int64 × Int32 × Int64 × Int64 × FM) ⊕ (Nat × Int64 × Int64 × Int32 × Int64 × Int64 × FM) ⊕ (Nat × Int32 × Int64 × Int64 × FM) ⊕ (Int64 × FM) :=
  let x1 : Nat := (M.2.2 340 a0 0)
  let r2 : Int64 × FM := GX95_number a0 (M.2.1 3 x1 (Int32.ofInt 0).toNatClampNeg) (Int32.ofInt 4) M
  let x3 : Nat := (r2.2.2.2 340 a0 0)
  let r4 : Int64 × FM := GX95_number a0 ((r2.2.2.1 3 x3 (Int32.ofInt 0).toNatClampNeg) + (Int64.ofInt 8)) (Int32.ofInt 8) r2.2
  let r5 : Int64 × FM := GX95_data a0 (Int32.ofInt 1) r4.2
  let r6 : Int64 × FM := GX95_data a0 (Int32.ofInt 0) r5.2
  fi ((lg_cmp r2.1 (Int64.ofInt 0)) = 0) (
    let r7 : Int32 × FM := GX95_areSectors a0 r4.1 r5.1 r6.2
    fi (r7.1 = 0) (
      GX95_request_70 a0 r4.1 r5.1 (Int32.ofInt 1) r7.2) (
      GX95_request_70 a0 r4.1 r5.1 (Int32.ofInt 0) r7.2)) (
    fi ((lg_cmp r2.1 (Int64.ofInt 1)) = 0) (
      let r8 : Int32 × FM := GX95_areSectors a0 r4.1 r6.1 r6.2
      fi (r8.1 = 0) (
        GX95_request_160 a0 r4.1 r6.1 (Int64.ofInt 0) (Int32.ofInt 1) r8.2) (
        GX95_request_160 a0 r4.1 r6.1 (Int64.ofInt 0) (Int32.ofInt 0) r8.2)) (
      fi ((lg_cmp r2.1 (Int64.ofInt 8)) = 0) (
        fi (0 ≤ (lg_cmp r5.1 (Int64.ofInt 20))) (
          GX95_request_262 a0 (Int32.ofInt 0) (Int64.ofInt 20) r6.2) (
          GX95_request_262 a0 (Int32.ofInt 0) r5.1 r6.2)) (
        fi ((lg_cmp r2.1 (Int64.ofInt 4)) = 0) (
          GX95_request_384 a0 (Int32.ofInt 0) (Int64.ofInt 0) r6.2) (
          GX95_request_384 a0 (Int32.ofInt 2) (Int64.ofInt 0) r6.2))))
def HX95_request_0 (a0 : Nat) (M : FM) : Prop := let x1 : Nat := (M.2.2 340 a0 0); (HX95_number a0 (M.2.1 3 x1 (Int32.ofInt 0).toNatClampNeg) (Int32.ofInt 4) M ∧ let r2 : Int64 × FM := GX95_number a0 (M.2.1 3 x1 (Int32.ofInt 0).toNatClampNeg) (Int32.ofInt 4) M; let x3 : Nat := (r2.2.2.2 340 a0 0); (HX95_number a0 ((r2.2.2.1 3 x3 (Int32.ofInt 0).toNatClampNeg) + (Int64.ofInt 8)) (Int32.ofInt 8) r2.2 ∧ let r4 : Int64 × FM := GX95_number a0 ((r2.2.2.1 3 x3 (Int32.ofInt 0).toNatClampNeg) + (Int64.ofInt 8)) (Int32.ofInt 8) r2.2; (HX95_data a0 (Int32.ofInt 1) r4.2 ∧ let r5 : Int64 × FM := GX95_data a0 (Int32.ofInt 1) r4.2; (HX95_data a0 (Int32.ofInt 0) r5.2 ∧ let r6 : Int64 × FM := GX95_data a0 (Int32.ofInt 0) r5.2; (((lg_cmp r2.1 (Int64.ofInt 0)) = 0 → let r7 : Int32 × FM := GX95_areSectors a0 r4.1 r5.1 r6.2; ((r7.1 = 0 → HX95_request_70 a0 r4.1 r5.1 (Int32.ofInt 1) r7.2) ∧ (¬ (r7.1 = 0) → HX95_request_70 a0 r4.1 r5.1 (Int32.ofInt 0) r7.2))) ∧ (¬ ((lg_cmp r2.1 (Int64.ofInt 0)) = 0) → (((lg_cmp r2.1 (Int64.ofInt 1)) = 0 → let r8 : Int32 × FM := GX95_areSectors a0 r4.1 r6.1 r6.2; ((r8.1 = 0 → HX95_request_160 a0 r4.1 r6.1 (Int64.ofInt 0) (Int32.ofInt 1) r8.2) ∧ (¬ (r8.1 = 0) → HX95_request_160 a0 r4.1 r6.1 (Int64.ofInt 0) (Int32.ofInt 0) r8.2))) ∧ (¬ ((lg_cmp r2.1 (Int64.ofInt 1)) = 0) → (((lg_cmp r2.1 (Int64.ofInt 8)) = 0 → ((0 ≤ (lg_cmp r5.1 (Int64.ofInt 20)) → HX95_request_262 a0 (Int32.ofInt 0) (Int64.ofInt 20) r6.2) ∧ (¬ (0 ≤ (lg_cmp r5.1 (Int64.ofInt 20))) → HX95_request_262 a0 (Int32.ofInt 0) r5.1 r6.2))) ∧ (¬ ((lg_cmp r2.1 (Int64.ofInt 8)) = 0) → (((lg_cmp r2.1 (Int64.ofInt 4)) = 0 → HX95_request_384 a0 (Int32.ofInt 0) (Int64.ofInt 0) r6.2) ∧ (¬ ((lg_cmp r2.1 (Int64.ofInt 4)) = 0) → HX95_request_384 a0 (Int32.ofInt 2) (Int64.ofInt 0) r6.2))))))))))))
theorem gX95_request_0 (k93 : Nat → Int64 → Int32 → Int64 → Int64 → FM → Option (Int64 × FM)) (k175 : Nat → Int64 → Int64 → Int32 → Int64 → Int64 → FM → Option (Int64 × FM)) (k272 : Nat → Int32 → Int64 → Int64 → FM → Option (Int64 × FM)) (a0 : Nat) (M : FM) (T : Ty M) (n_a0 : fm_is M 93 93 a0 = true) (h : HX95_request_0 a0 M) : gs (FX95_request_0 fN k93 k175 k272 a0 M) (GX95_request_0 a0 M) (kX95_request k93 k175 k272) (pX95_request M) := by
  delta FX95_request_0 BX95_request_0
  refine gs_c n_a0 ?_
  have f31 := (tN_340 T.1 n_a0)
  have f32 := (fm_inl (i := (Int32.ofInt 0)) (tL_340 T.1 n_a0) (by decide))
  refine gs_c ⟨f31, f32⟩ ?_
  refine gs_c n_a0 ?_
  refine gs_b (gX95_number _ _ _ _ h.1) (fun K0 => ?_)
  have f1 := (ext_is K0.2 (Nat.zero_lt_succ _) n_a0)
  refine gs_c f1 ?_
  have f29 := (tN_340 K0.1.1 (ext_is K0.2 (Nat.zero_lt_succ _) n_a0))
  have f30 := (fm_inl (i := (Int32.ofInt 0)) (tL_340 K0.1.1 (ext_is K0.2 (Nat.zero_lt_succ _) n_a0)) (by decide))
  refine gs_c ⟨f29, f30⟩ ?_
  have f2 := (ext_is K0.2 (Nat.zero_lt_succ _) n_a0)
  refine gs_c f2 ?_
  refine gs_b (gX95_number _ _ _ _ h.2.1) (fun K3 => ?_)
  have f4 := (ext_is K3.2 (Nat.zero_lt_succ _) (ext_is K0.2 (Nat.zero_lt_succ _) n_a0))
  refine gs_c f4 ?_
  refine gs_b (gX95_data _ _ _ h.2.2.1) (fun K5 => ?_)
  have f6 := (ext_is K5.2 (Nat.zero_lt_succ _) (ext_is K3.2 (Nat.zero_lt_succ _) (ext_is K0.2 (Nat.zero_lt_succ _) n_a0)))
  refine gs_c f6 ?_
  refine gs_b (gX95_data _ _ _ h.2.2.2.1) (fun K7 => ?_)
  refine gs_fi (fun c8_0 => ?_) (fun c8_0 => ?_)
  · have f9 := (ext_is K7.2 (Nat.zero_lt_succ _) (ext_is K5.2 (Nat.zero_lt_succ _) (ext_is K3.2 (Nat.zero_lt_succ _) (ext_is K0.2 (Nat.zero_lt_succ _) n_a0))))
    refine gs_c f9 ?_
    have f14 := (ext_is K7.2 (Nat.zero_lt_succ _) (ext_is K5.2 (Nat.zero_lt_succ _) (ext_is K3.2 (Nat.zero_lt_succ _) (ext_is K0.2 (Nat.zero_lt_succ _) n_a0))))
    refine gs_b (gX95_areSectors _ _ _ _ ⟨K7.1.1, K7.1.2⟩ f14 ) (fun K10 => ?_)
    refine gs_fi (fun c11_0 => ?_) (fun c11_0 => ?_)
    · have f12 := (ext_is K10.2.1 (Nat.zero_lt_succ _) (ext_is K7.2 (Nat.zero_lt_succ _) (ext_is K5.2 (Nat.zero_lt_succ _) (ext_is K3.2 (Nat.zero_lt_succ _) (ext_is K0.2 (Nat.zero_lt_succ _) n_a0)))))
      exact gs_t (pX95_request_t (ext_tr K0.2 (ext_tr K3.2 (ext_tr K5.2 (ext_tr K7.2 K10.2.1))))) (gX95_request_70 k93 k175 k272 _ _ _ _ _ ⟨K10.1.1, K10.1.2⟩ f12 ((h.2.2.2.2.1 c8_0).1 c11_0))
    · have f13 := (ext_is K10.2.1 (Nat.zero_lt_succ _) (ext_is K7.2 (Nat.zero_lt_succ _) (ext_is K5.2 (Nat.zero_lt_succ _) (ext_is K3.2 (Nat.zero_lt_succ _) (ext_is K0.2 (Nat.zero_lt_succ _) n_a0)))))
      exact gs_t (pX95_request_t (ext_tr K0.2 (ext_tr K3.2 (ext_tr K5.2 (ext_tr K7.2 K10.2.1))))) (gX95_request_70 k93 k175 k272 _ _ _ _ _ ⟨K10.1.1, K10.1.2⟩ f13 ((h.2.2.2.2.1 c8_0).2 c11_0))
  · refine gs_fi (fun c15_0 => ?_) (fun c15_0 => ?_)
    · have f16 := (ext_is K7.2 (Nat.zero_lt_succ _) (ext_is K5.2 (Nat.zero_lt_succ _) (ext_is K3.2 (Nat.zero_lt_succ _) (ext_is K0.2 (Nat.zero_lt_succ _) n_a0))))
      refine gs_c f16 ?_
      have f21 := (ext_is K7.2 (Nat.zero_lt_succ _) (ext_is K5.2 (Nat.zero_lt_succ _) (ext_is K3.2 (Nat.zero_lt_succ _) (ext_is K0.2 (Nat.zero_lt_succ _) n_a0))))
      refine gs_b (gX95_areSectors _ _ _ _ ⟨K7.1.1, K7.1.2⟩ f21 ) (fun K17 => ?_)
      refine gs_fi (fun c18_0 => ?_) (fun c18_0 => ?_)
      · have f19 := (ext_is K17.2.1 (Nat.zero_lt_succ _) (ext_is K7.2 (Nat.zero_lt_succ _) (ext_is K5.2 (Nat.zero_lt_succ _) (ext_is K3.2 (Nat.zero_lt_succ _) (ext_is K0.2 (Nat.zero_lt_succ _) n_a0)))))
        exact gs_t (pX95_request_t (ext_tr K0.2 (ext_tr K3.2 (ext_tr K5.2 (ext_tr K7.2 K17.2.1))))) (gX95_request_160 k93 k175 k272 _ _ _ _ _ _ ⟨K17.1.1, K17.1.2⟩ f19 (((h.2.2.2.2.2 c8_0).1 c15_0).1 c18_0))
      · have f20 := (ext_is K17.2.1 (Nat.zero_lt_succ _) (ext_is K7.2 (Nat.zero_lt_succ _) (ext_is K5.2 (Nat.zero_lt_succ _) (ext_is K3.2 (Nat.zero_lt_succ _) (ext_is K0.2 (Nat.zero_lt_succ _) n_a0)))))
        exact gs_t (pX95_request_t (ext_tr K0.2 (ext_tr K3.2 (ext_tr K5.2 (ext_tr K7.2 K17.2.1))))) (gX95_request_160 k93 k175 k272 _ _ _ _ _ _ ⟨K17.1.1, K17.1.2⟩ f20 (((h.2.2.2.2.2 c8_0).1 c15_0).2 c18_0))
    · refine gs_fi (fun c22_0 => ?_) (fun c22_0 => ?_)
      · refine gs_fi (fun c23_0 => ?_) (fun c23_0 => ?_)
        · have f24 := (ext_is K7.2 (Nat.zero_lt_succ _) (ext_is K5.2 (Nat.zero_lt_succ _) (ext_is K3.2 (Nat.zero_lt_succ _) (ext_is K0.2 (Nat.zero_lt_succ _) n_a0))))
          exact gs_t (pX95_request_t (ext_tr K0.2 (ext_tr K3.2 (ext_tr K5.2 K7.2)))) (gX95_request_262 k93 k175 k272 _ _ _ _ ⟨K7.1.1, K7.1.2⟩ f24 ((((h.2.2.2.2.2 c8_0).2 c15_0).1 c22_0).1 c23_0))
        · have f25 := (ext_is K7.2 (Nat.zero_lt_succ _) (ext_is K5.2 (Nat.zero_lt_succ _) (ext_is K3.2 (Nat.zero_lt_succ _) (ext_is K0.2 (Nat.zero_lt_succ _) n_a0))))
          exact gs_t (pX95_request_t (ext_tr K0.2 (ext_tr K3.2 (ext_tr K5.2 K7.2)))) (gX95_request_262 k93 k175 k272 _ _ _ _ ⟨K7.1.1, K7.1.2⟩ f25 ((((h.2.2.2.2.2 c8_0).2 c15_0).1 c22_0).2 c23_0))
      · refine gs_fi (fun c26_0 => ?_) (fun c26_0 => ?_)
        · have f27 := (ext_is K7.2 (Nat.zero_lt_succ _) (ext_is K5.2 (Nat.zero_lt_succ _) (ext_is K3.2 (Nat.zero_lt_succ _) (ext_is K0.2 (Nat.zero_lt_succ _) n_a0))))
          exact gs_t (pX95_request_t (ext_tr K0.2 (ext_tr K3.2 (ext_tr K5.2 K7.2)))) (gX95_request_384 k93 k175 k272 _ _ _ _ ⟨K7.1.1, K7.1.2⟩ f27 ((((h.2.2.2.2.2 c8_0).2 c15_0).2 c22_0).1 c26_0))
        · have f28 := (ext_is K7.2 (Nat.zero_lt_succ _) (ext_is K5.2 (Nat.zero_lt_succ _) (ext_is K3.2 (Nat.zero_lt_succ _) (ext_is K0.2 (Nat.zero_lt_succ _) n_a0))))
          exact gs_t (pX95_request_t (ext_tr K0.2 (ext_tr K3.2 (ext_tr K5.2 K7.2)))) (gX95_request_384 k93 k175 k272 _ _ _ _ ⟨K7.1.1, K7.1.2⟩ f28 ((((h.2.2.2.2.2 c8_0).2 c15_0).2 c22_0).2 c26_0))
noncomputable def GX95_request_272 (a0 : Nat) (a9 : Int32) (a10 : Int64) (a12 : Int64) (M : FM) : (Nat × Int64 × Int32 × Int64 × Int64 × FM) ⊕ (Nat × Int64 × Int64 × Int32 × Int64 × Int64 × FM) ⊕ (Nat × Int32 × Int64 × Int64 × FM) ⊕ (Int64 × FM) :=
  fi (0 ≤ (lg_cmp a12 a10)) (
    GX95_request_384 a0 a9 a10 M) (
    let r1 : Int64 × FM := GX95_nextByte a0 M
    fi ((lg_cmp a12 (Int64.ofInt 0)) = 0) (
      GX95_request_358 a0 a9 a10 a12 a0 r1.1 (Int32.ofInt 1) (Int64.ofInt 98) r1.2) (
      fi ((lg_cmp a12 (Int64.ofInt 1)) = 0) (
        GX95_request_358 a0 a9 a10 a12 a0 r1.1 (Int32.ofInt 1) (Int64.ofInt 108) r1.2) (
        fi ((lg_cmp a12 (Int64.ofInt 2)) = 0) (
          GX95_request_358 a0 a9 a10 a12 a0 r1.1 (Int32.ofInt 1) (Int64.ofInt 111) r1.2) (
          fi ((lg_cmp a12 (Int64.ofInt 3)) = 0) (
            GX95_request_358 a0 a9 a10 a12 a0 r1.1 (Int32.ofInt 1) (Int64.ofInt 99) r1.2) (
            fi ((lg_cmp a12 (Int64.ofInt 4)) = 0) (
              GX95_request_358 a0 a9 a10 a12 a0 r1.1 (Int32.ofInt 1) (Int64.ofInt 107) r1.2) (
              GX95_request_358 a0 a9 a10 a12 a0 r1.1 (Int32.ofInt 1) (Int64.ofInt 0) r1.2))))))
def HX95_request_272 (a0 : Nat) (a9 : Int32) (a10 : Int64) (a12 : Int64) (M : FM) : Prop := ((0 ≤ (lg_cmp a12 a10) → HX95_request_384 a0 a9 a10 M) ∧ (¬ (0 ≤ (lg_cmp a12 a10)) → (HX95_nextByte a0 M ∧ let r1 : Int64 × FM := GX95_nextByte a0 M; (((lg_cmp a12 (Int64.ofInt 0)) = 0 → HX95_request_358 a0 a9 a10 a12 a0 r1.1 (Int32.ofInt 1) (Int64.ofInt 98) r1.2) ∧ (¬ ((lg_cmp a12 (Int64.ofInt 0)) = 0) → (((lg_cmp a12 (Int64.ofInt 1)) = 0 → HX95_request_358 a0 a9 a10 a12 a0 r1.1 (Int32.ofInt 1) (Int64.ofInt 108) r1.2) ∧ (¬ ((lg_cmp a12 (Int64.ofInt 1)) = 0) → (((lg_cmp a12 (Int64.ofInt 2)) = 0 → HX95_request_358 a0 a9 a10 a12 a0 r1.1 (Int32.ofInt 1) (Int64.ofInt 111) r1.2) ∧ (¬ ((lg_cmp a12 (Int64.ofInt 2)) = 0) → (((lg_cmp a12 (Int64.ofInt 3)) = 0 → HX95_request_358 a0 a9 a10 a12 a0 r1.1 (Int32.ofInt 1) (Int64.ofInt 99) r1.2) ∧ (¬ ((lg_cmp a12 (Int64.ofInt 3)) = 0) → (((lg_cmp a12 (Int64.ofInt 4)) = 0 → HX95_request_358 a0 a9 a10 a12 a0 r1.1 (Int32.ofInt 1) (Int64.ofInt 107) r1.2) ∧ (¬ ((lg_cmp a12 (Int64.ofInt 4)) = 0) → HX95_request_358 a0 a9 a10 a12 a0 r1.1 (Int32.ofInt 1) (Int64.ofInt 0) r1.2)))))))))))))
theorem gX95_request_272 (k93 : Nat → Int64 → Int32 → Int64 → Int64 → FM → Option (Int64 × FM)) (k175 : Nat → Int64 → Int64 → Int32 → Int64 → Int64 → FM → Option (Int64 × FM)) (k272 : Nat → Int32 → Int64 → Int64 → FM → Option (Int64 × FM)) (a0 : Nat) (a9 : Int32) (a10 : Int64) (a12 : Int64) (M : FM) (T : Ty M) (n_a0 : fm_is M 93 93 a0 = true) (h : HX95_request_272 a0 a9 a10 a12 M) : gs (FX95_request_272 fN k93 k175 k272 a0 a9 a10 a12 M) (GX95_request_272 a0 a9 a10 a12 M) (kX95_request k93 k175 k272) (pX95_request M) := by
  delta FX95_request_272 BX95_request_272
  refine gs_fi (fun c0_0 => ?_) (fun c0_0 => ?_)
  · exact gs_t (pX95_request_t (ext_r _)) (gX95_request_384 k93 k175 k272 _ _ _ _ ⟨T.1, T.2⟩ n_a0 (h.1 c0_0))
  · refine gs_c n_a0 ?_
    refine gs_b (gX95_nextByte _ _ (h.2 c0_0).1) (fun K1 => ?_)
    refine gs_fi (fun c2_0 => ?_) (fun c2_0 => ?_)
    · have f3 := (ext_is K1.2 (Nat.zero_lt_succ _) n_a0)
      exact gs_t (pX95_request_t K1.2) (gX95_request_358 k93 k175 k272 _ _ _ _ _ _ _ _ _ ⟨K1.1.1, K1.1.2⟩ f3 ((h.2 c0_0).2.1 c2_0))
    · refine gs_fi (fun c4_0 => ?_) (fun c4_0 => ?_)
      · have f5 := (ext_is K1.2 (Nat.zero_lt_succ _) n_a0)
        exact gs_t (pX95_request_t K1.2) (gX95_request_358 k93 k175 k272 _ _ _ _ _ _ _ _ _ ⟨K1.1.1, K1.1.2⟩ f5 (((h.2 c0_0).2.2 c2_0).1 c4_0))
      · refine gs_fi (fun c6_0 => ?_) (fun c6_0 => ?_)
        · have f7 := (ext_is K1.2 (Nat.zero_lt_succ _) n_a0)
          exact gs_t (pX95_request_t K1.2) (gX95_request_358 k93 k175 k272 _ _ _ _ _ _ _ _ _ ⟨K1.1.1, K1.1.2⟩ f7 ((((h.2 c0_0).2.2 c2_0).2 c4_0).1 c6_0))
        · refine gs_fi (fun c8_0 => ?_) (fun c8_0 => ?_)
          · have f9 := (ext_is K1.2 (Nat.zero_lt_succ _) n_a0)
            exact gs_t (pX95_request_t K1.2) (gX95_request_358 k93 k175 k272 _ _ _ _ _ _ _ _ _ ⟨K1.1.1, K1.1.2⟩ f9 (((((h.2 c0_0).2.2 c2_0).2 c4_0).2 c6_0).1 c8_0))
          · refine gs_fi (fun c10_0 => ?_) (fun c10_0 => ?_)
            · have f11 := (ext_is K1.2 (Nat.zero_lt_succ _) n_a0)
              exact gs_t (pX95_request_t K1.2) (gX95_request_358 k93 k175 k272 _ _ _ _ _ _ _ _ _ ⟨K1.1.1, K1.1.2⟩ f11 ((((((h.2 c0_0).2.2 c2_0).2 c4_0).2 c6_0).2 c8_0).1 c10_0))
            · have f12 := (ext_is K1.2 (Nat.zero_lt_succ _) n_a0)
              exact gs_t (pX95_request_t K1.2) (gX95_request_358 k93 k175 k272 _ _ _ _ _ _ _ _ _ ⟨K1.1.1, K1.1.2⟩ f12 ((((((h.2 c0_0).2.2 c2_0).2 c4_0).2 c6_0).2 c8_0).2 c10_0))
noncomputable def GX95_request_175 (a0 : Nat) (a3 : Int64) (a7 : Int64) (a9 : Int32) (a10 : Int64) (a12 : Int64) (M : FM) : (Nat × Int64 × Int32 × Int64 × Int64 × FM) ⊕ (Nat × Int64 × Int64 × Int32 × Int64 × Int64 × FM) ⊕ (Nat × Int32 × Int64 × Int64 × FM) ⊕ (Int64 × FM) :=
  fi (0 ≤ (lg_cmp a12 a7)) (
    let M1 : FM := fm_sI M 338 a0 0 ((M.1 338 a0 0) + (a7 / (Int64.ofInt 512)).toInt32)
    GX95_request_384 a0 a9 a10 M1) (
    let r2 : Int64 × FM := GX95_nextByte a0 M
    let r3 : Int64 × FM := GX95_number a0 r2.1 (Int32.ofInt 1) r2.2
    let M4 : FM := GX95_putByte (M.2.2 327 a0 0) ((((Int64.ofInt 512) * a3) + a12).toInt32) r3.1.toInt32 r3.2
    let x5 : Int64 := (a12 + (Int64.ofInt 1))
    (.inr (.inl (a0, a3, a7, a9, a10, x5, M4))))
def HX95_request_175 (a0 : Nat) (a3 : Int64) (a7 : Int64) (a9 : Int32) (a10 : Int64) (a12 : Int64) (M : FM) : Prop := ((0 ≤ (lg_cmp a12 a7) → let M1 : FM := fm_sI M 338 a0 0 ((M.1 338 a0 0) + (a7 / (Int64.ofInt 512)).toInt32); HX95_request_384 a0 a9 a10 M1) ∧ (¬ (0 ≤ (lg_cmp a12 a7)) → (HX95_nextByte a0 M ∧ let r2 : Int64 × FM := GX95_nextByte a0 M; (HX95_number a0 r2.1 (Int32.ofInt 1) r2.2 ∧ let r3 : Int64 × FM := GX95_number a0 r2.1 (Int32.ofInt 1) r2.2; (HX95_putByte (M.2.2 327 a0 0) ((((Int64.ofInt 512) * a3) + a12).toInt32) r3.1.toInt32 r3.2 ∧ True)))))
theorem gX95_request_175 (k93 : Nat → Int64 → Int32 → Int64 → Int64 → FM → Option (Int64 × FM)) (k175 : Nat → Int64 → Int64 → Int32 → Int64 → Int64 → FM → Option (Int64 × FM)) (k272 : Nat → Int32 → Int64 → Int64 → FM → Option (Int64 × FM)) (a0 : Nat) (a3 : Int64) (a7 : Int64) (a9 : Int32) (a10 : Int64) (a12 : Int64) (M : FM) (T : Ty M) (n_a0 : fm_is M 93 93 a0 = true) (h : HX95_request_175 a0 a3 a7 a9 a10 a12 M) : gs (FX95_request_175 fN k93 k175 k272 a0 a3 a7 a9 a10 a12 M) (GX95_request_175 a0 a3 a7 a9 a10 a12 M) (kX95_request k93 k175 k272) (pX95_request M) := by
  delta FX95_request_175 BX95_request_175
  refine gs_fi (fun c0_0 => ?_) (fun c0_0 => ?_)
  · refine gs_c n_a0 ?_
    refine gs_n (by decide) ?_
    refine gs_c n_a0 ?_
    exact gs_t (pX95_request_t (ext_dI (ext_r _))) (gX95_request_384 k93 k175 k272 _ _ _ _ ⟨T.1, (tyb_sI (f := 338) rfl T.2)⟩ n_a0 (h.1 c0_0))
  · refine gs_c n_a0 ?_
    refine gs_c n_a0 ?_
    refine gs_b (gX95_nextByte _ _ (h.2 c0_0).1) (fun K1 => ?_)
    have f2 := (ext_is K1.2 (Nat.zero_lt_succ _) n_a0)
    refine gs_c f2 ?_
    refine gs_b (gX95_number _ _ _ _ (h.2 c0_0).2.1) (fun K3 => ?_)
    have f5 := (ext_is K3.2 (Nat.zero_lt_succ _) (ext_is K1.2 (Nat.zero_lt_succ _) (tN_327 T.1 n_a0)))
    refine gs_b (gX95_putByte _ _ _ _ ⟨K3.1.1, K3.1.2⟩ f5 (h.2 c0_0).2.2.1) (fun K4 => ?_)
    exact And.intro rfl (And.intro (And.intro K4.1.1 K4.1.2) ((ext_tr K1.2 (ext_tr K3.2 K4.2))))
noncomputable def GX95_request_93 (a0 : Nat) (a3 : Int64) (a9 : Int32) (a10 : Int64) (a12 : Int64) (M : FM) : (Nat × Int64 × Int32 × Int64 × Int64 × FM) ⊕ (Nat × Int64 × Int64 × Int32 × Int64 × Int64 × FM) ⊕ (Nat × Int32 × Int64 × Int64 × FM) ⊕ (Int64 × FM) :=
  fi (0 ≤ (lg_cmp a12 a10)) (
    GX95_request_384 a0 a9 a10 M) (
    let r1 : Int64 × FM := GX95_nextByte a0 M
    let r2 : Int32 × FM := GX95_byteOf (r1.2.2.2 327 a0 0) ((((Int64.ofInt 512) * a3) + a12).toInt32) r1.2
    let M3 : FM := GX95_put a0 r1.1 (Int32.ofInt 1) r2.1.toInt64 r2.2
    let x4 : Int64 := (a12 + (Int64.ofInt 1))
    (.inl (a0, a3, a9, a10, x4, M3)))
def HX95_request_93 (a0 : Nat) (a3 : Int64) (a9 : Int32) (a10 : Int64) (a12 : Int64) (M : FM) : Prop := ((0 ≤ (lg_cmp a12 a10) → HX95_request_384 a0 a9 a10 M) ∧ (¬ (0 ≤ (lg_cmp a12 a10)) → (HX95_nextByte a0 M ∧ let r1 : Int64 × FM := GX95_nextByte a0 M; (HX95_byteOf (r1.2.2.2 327 a0 0) ((((Int64.ofInt 512) * a3) + a12).toInt32) r1.2 ∧ let r2 : Int32 × FM := GX95_byteOf (r1.2.2.2 327 a0 0) ((((Int64.ofInt 512) * a3) + a12).toInt32) r1.2; (HX95_put a0 r1.1 (Int32.ofInt 1) r2.1.toInt64 r2.2 ∧ True)))))
theorem gX95_request_93 (k93 : Nat → Int64 → Int32 → Int64 → Int64 → FM → Option (Int64 × FM)) (k175 : Nat → Int64 → Int64 → Int32 → Int64 → Int64 → FM → Option (Int64 × FM)) (k272 : Nat → Int32 → Int64 → Int64 → FM → Option (Int64 × FM)) (a0 : Nat) (a3 : Int64) (a9 : Int32) (a10 : Int64) (a12 : Int64) (M : FM) (T : Ty M) (n_a0 : fm_is M 93 93 a0 = true) (h : HX95_request_93 a0 a3 a9 a10 a12 M) : gs (FX95_request_93 fN k93 k175 k272 a0 a3 a9 a10 a12 M) (GX95_request_93 a0 a3 a9 a10 a12 M) (kX95_request k93 k175 k272) (pX95_request M) := by
  delta FX95_request_93 BX95_request_93
  refine gs_fi (fun c0_0 => ?_) (fun c0_0 => ?_)
  · exact gs_t (pX95_request_t (ext_r _)) (gX95_request_384 k93 k175 k272 _ _ _ _ ⟨T.1, T.2⟩ n_a0 (h.1 c0_0))
  · refine gs_c n_a0 ?_
    refine gs_b (gX95_nextByte _ _ (h.2 c0_0).1) (fun K1 => ?_)
    have f2 := (ext_is K1.2 (Nat.zero_lt_succ _) n_a0)
    refine gs_c f2 ?_
    have f6 := (tN_327 K1.1.1 (ext_is K1.2 (Nat.zero_lt_succ _) n_a0))
    refine gs_b (gX95_byteOf _ _ _ ⟨K1.1.1, K1.1.2⟩ f6 (h.2 c0_0).2.1) (fun K3 => ?_)
    have f4 := (ext_is K3.2 (Nat.zero_lt_succ _) (ext_is K1.2 (Nat.zero_lt_succ _) n_a0))
    refine gs_c f4 ?_
    refine gs_b (gX95_put _ _ _ _ _ (h.2 c0_0).2.2.1) (fun K5 => ?_)
    exact And.intro rfl (And.intro (And.intro K5.1.1 K5.1.2) ((ext_tr K1.2 (ext_tr K3.2 K5.2))))
noncomputable def GX95_request (a0 : Nat) (M : FM) : Int64 × FM := (FX95_request fN a0 M).getD (0, M)
def HX95_request (a0 : Nat) (M : FM) : Prop := ∃ r, FX95_request fN a0 M = some r ∧ OkR M r
theorem gX95_request (a0 : Nat) (M : FM) (h : HX95_request a0 M) : gd (FX95_request fN a0 M) (GX95_request a0 M) (OkR M) := gd_op h
noncomputable def GX95_oneMore_111 (M : FM) : Int32 × FM :=
  ((Int32.ofInt 0), M)
theorem gX95_oneMore_111 (M : FM) (T : Ty M) : gd (FX95_oneMore_111 fN M) (GX95_oneMore_111 M) (OkZ M) := by
  delta FX95_oneMore_111 BX95_oneMore_111
  exact gd_z fz_0 ⟨T.1, T.2⟩ (ext_r _) rfl
noncomputable def GX95_oneMore_0 (a0 : Nat) (M : FM) : Int32 × FM :=
  let x1 : Nat := (M.2.2 334 a0 0)
  let x2 : Int32 := (M.1 330 a0 0)
  let x3 : Int32 := (M.1 335 a0 0)
  let x4 : Int64 := (((M.2.1 3 x1 (Int32.ofInt 1).toNatClampNeg) + (Int64.ofInt 4)) + ((Int64.ofInt 2) * (x3 - x3 / x2 * x2).toInt64))
  let r5 : Int32 × FM := GX95_isThere x4 (Int64.ofInt 2) M
  fi (r5.1 = 0) (
    ((Int32.ofInt 0), r5.2)) (
    let r6 : Int64 × FM := GX95_number a0 x4 (Int32.ofInt 2) r5.2
    let x7 : Int32 := r6.1.toInt32
    let x8 : Nat := (r6.2.2.2 334 a0 0)
    let x9 : Int32 := (r6.2.1 330 a0 0)
    let x10 : Int32 := (r6.2.1 336 a0 0)
    let x11 : Int64 := (((r6.2.2.1 3 x8 (Int32.ofInt 2).toNatClampNeg) + (Int64.ofInt 4)) + ((Int64.ofInt 8) * (x10 - x10 / x9 * x9).toInt64))
    let r12 : Int32 × FM := GX95_gather a0 x7 r6.2
    fi (r12.1 = 0) (
      GX95_oneMore_111 r12.2) (
      let r13 : Int32 × FM := GX95_isThere x11 (Int64.ofInt 8) r12.2
      fi (r13.1 = 0) (
        GX95_oneMore_111 r13.2) (
        let x14 : Nat := (r13.2.2.2 334 a0 0)
        let r15 : Int32 × FM := GX95_isThere ((r13.2.2.1 3 x14 (Int32.ofInt 2).toNatClampNeg) + (Int64.ofInt 2)) (Int64.ofInt 2) r13.2
        fi (r15.1 = 0) (
          GX95_oneMore_111 r15.2) (
          let r16 : Int64 × FM := GX95_request a0 r15.2
          let M17 : FM := GX95_put a0 x11 (Int32.ofInt 4) x7.toInt64 r16.2
          let M18 : FM := GX95_put a0 (x11 + (Int64.ofInt 4)) (Int32.ofInt 4) r16.1 M17
          let x19 : Int32 := ((M18.1 335 a0 0) + (Int32.ofInt 1))
          let M20 : FM := fm_sI M18 335 a0 0 (x19 - x19 / (Int32.ofInt 65536) * (Int32.ofInt 65536))
          let x21 : Int32 := ((M20.1 336 a0 0) + (Int32.ofInt 1))
          let M22 : FM := fm_sI M20 336 a0 0 (x21 - x21 / (Int32.ofInt 65536) * (Int32.ofInt 65536))
          let x23 : Nat := (M22.2.2 334 a0 0)
          let M24 : FM := GX95_put a0 ((M22.2.1 3 x23 (Int32.ofInt 2).toNatClampNeg) + (Int64.ofInt 2)) (Int32.ofInt 2) ((M22.1 336 a0 0).toInt64) M22
          let M25 : FM := fm_sI M24 337 a0 0 ((M24.1 337 a0 0) + (Int32.ofInt 1))
          ((Int32.ofInt 1), M25)))))
def HX95_oneMore_0 (a0 : Nat) (M : FM) : Prop := let x1 : Nat := (M.2.2 334 a0 0); let x2 : Int32 := (M.1 330 a0 0); let x3 : Int32 := (M.1 335 a0 0); (¬ x2 = 0 ∧ let x4 : Int64 := (((M.2.1 3 x1 (Int32.ofInt 1).toNatClampNeg) + (Int64.ofInt 4)) + ((Int64.ofInt 2) * (x3 - x3 / x2 * x2).toInt64)); let r5 : Int32 × FM := GX95_isThere x4 (Int64.ofInt 2) M; ((r5.1 = 0 → True) ∧ (¬ (r5.1 = 0) → (HX95_number a0 x4 (Int32.ofInt 2) r5.2 ∧ let r6 : Int64 × FM := GX95_number a0 x4 (Int32.ofInt 2) r5.2; let x7 : Int32 := r6.1.toInt32; let x8 : Nat := (r6.2.2.2 334 a0 0); let x9 : Int32 := (r6.2.1 330 a0 0); let x10 : Int32 := (r6.2.1 336 a0 0); (¬ x9 = 0 ∧ let x11 : Int64 := (((r6.2.2.1 3 x8 (Int32.ofInt 2).toNatClampNeg) + (Int64.ofInt 4)) + ((Int64.ofInt 8) * (x10 - x10 / x9 * x9).toInt64)); (HX95_gather a0 x7 r6.2 ∧ let r12 : Int32 × FM := GX95_gather a0 x7 r6.2; ((r12.1 = 0 → True) ∧ (¬ (r12.1 = 0) → let r13 : Int32 × FM := GX95_isThere x11 (Int64.ofInt 8) r12.2; ((r13.1 = 0 → True) ∧ (¬ (r13.1 = 0) → let x14 : Nat := (r13.2.2.2 334 a0 0); let r15 : Int32 × FM := GX95_isThere ((r13.2.2.1 3 x14 (Int32.ofInt 2).toNatClampNeg) + (Int64.ofInt 2)) (Int64.ofInt 2) r13.2; ((r15.1 = 0 → True) ∧ (¬ (r15.1 = 0) → (HX95_request a0 r15.2 ∧ let r16 : Int64 × FM := GX95_request a0 r15.2; (HX95_put a0 x11 (Int32.ofInt 4) x7.toInt64 r16.2 ∧ let M17 : FM := GX95_put a0 x11 (Int32.ofInt 4) x7.toInt64 r16.2; (HX95_put a0 (x11 + (Int64.ofInt 4)) (Int32.ofInt 4) r16.1 M17 ∧ let M18 : FM := GX95_put a0 (x11 + (Int64.ofInt 4)) (Int32.ofInt 4) r16.1 M17; let x19 : Int32 := ((M18.1 335 a0 0) + (Int32.ofInt 1)); let M20 : FM := fm_sI M18 335 a0 0 (x19 - x19 / (Int32.ofInt 65536) * (Int32.ofInt 65536)); let x21 : Int32 := ((M20.1 336 a0 0) + (Int32.ofInt 1)); let M22 : FM := fm_sI M20 336 a0 0 (x21 - x21 / (Int32.ofInt 65536) * (Int32.ofInt 65536)); let x23 : Nat := (M22.2.2 334 a0 0); (HX95_put a0 ((M22.2.1 3 x23 (Int32.ofInt 2).toNatClampNeg) + (Int64.ofInt 2)) (Int32.ofInt 2) ((M22.1 336 a0 0).toInt64) M22 ∧ True))))))))))))))))
theorem gX95_oneMore_0 (a0 : Nat) (M : FM) (T : Ty M) (n_a0 : fm_is M 93 93 a0 = true) (h : HX95_oneMore_0 a0 M) : gd (FX95_oneMore_0 fN a0 M) (GX95_oneMore_0 a0 M) (OkZ M) := by
  delta FX95_oneMore_0 BX95_oneMore_0
  refine gd_c n_a0 ?_
  have f37 := (tN_334 T.1 n_a0)
  have f38 := (fm_inl (i := (Int32.ofInt 1)) (tL_334 T.1 n_a0) (by decide))
  refine gd_c ⟨f37, f38⟩ ?_
  refine gd_c n_a0 ?_
  refine gd_c n_a0 ?_
  refine gd_n h.1 ?_
  refine gd_b (gX95_isThere _ _ _ ⟨T.1, T.2⟩  ) (fun K0 => ?_)
  refine gd_fi (fun c1_0 => ?_) (fun c1_0 => ?_)
  · exact gd_z fz_0 ⟨K0.1.1, K0.1.2⟩ K0.2.1 rfl
  · have f2 := (ext_is K0.2.1 (Nat.zero_lt_succ _) n_a0)
    refine gd_c f2 ?_
    refine gd_b (gX95_number _ _ _ _ (h.2.2 c1_0).1) (fun K3 => ?_)
    have f4 := (ext_is K3.2 (Nat.zero_lt_succ _) (ext_is K0.2.1 (Nat.zero_lt_succ _) n_a0))
    refine gd_c f4 ?_
    have f35 := (tN_334 K3.1.1 (ext_is K3.2 (Nat.zero_lt_succ _) (ext_is K0.2.1 (Nat.zero_lt_succ _) n_a0)))
    have f36 := (fm_inl (i := (Int32.ofInt 2)) (tL_334 K3.1.1 (ext_is K3.2 (Nat.zero_lt_succ _) (ext_is K0.2.1 (Nat.zero_lt_succ _) n_a0))) (by decide))
    refine gd_c ⟨f35, f36⟩ ?_
    have f5 := (ext_is K3.2 (Nat.zero_lt_succ _) (ext_is K0.2.1 (Nat.zero_lt_succ _) n_a0))
    refine gd_c f5 ?_
    have f6 := (ext_is K3.2 (Nat.zero_lt_succ _) (ext_is K0.2.1 (Nat.zero_lt_succ _) n_a0))
    refine gd_c f6 ?_
    refine gd_n (h.2.2 c1_0).2.1 ?_
    have f7 := (ext_is K3.2 (Nat.zero_lt_succ _) (ext_is K0.2.1 (Nat.zero_lt_succ _) n_a0))
    refine gd_c f7 ?_
    refine gd_b (gX95_gather _ _ _ (h.2.2 c1_0).2.2.1) (fun K8 => ?_)
    refine gd_fi (fun c9_0 => ?_) (fun c9_0 => ?_)
    · exact gd_tZ (ext_tr K0.2.1 (ext_tr K3.2 K8.2.1)) (gX95_oneMore_111  _ ⟨K8.1.1, K8.1.2⟩  )
    · refine gd_b (gX95_isThere _ _ _ ⟨K8.1.1, K8.1.2⟩  ) (fun K10 => ?_)
      refine gd_fi (fun c11_0 => ?_) (fun c11_0 => ?_)
      · exact gd_tZ (ext_tr K0.2.1 (ext_tr K3.2 (ext_tr K8.2.1 K10.2.1))) (gX95_oneMore_111  _ ⟨K10.1.1, K10.1.2⟩  )
      · have f12 := (ext_is K10.2.1 (Nat.zero_lt_succ _) (ext_is K8.2.1 (Nat.zero_lt_succ _) (ext_is K3.2 (Nat.zero_lt_succ _) (ext_is K0.2.1 (Nat.zero_lt_succ _) n_a0))))
        refine gd_c f12 ?_
        have f33 := (tN_334 K10.1.1 (ext_is K10.2.1 (Nat.zero_lt_succ _) (ext_is K8.2.1 (Nat.zero_lt_succ _) (ext_is K3.2 (Nat.zero_lt_succ _) (ext_is K0.2.1 (Nat.zero_lt_succ _) n_a0)))))
        have f34 := (fm_inl (i := (Int32.ofInt 2)) (tL_334 K10.1.1 (ext_is K10.2.1 (Nat.zero_lt_succ _) (ext_is K8.2.1 (Nat.zero_lt_succ _) (ext_is K3.2 (Nat.zero_lt_succ _) (ext_is K0.2.1 (Nat.zero_lt_succ _) n_a0))))) (by decide))
        refine gd_c ⟨f33, f34⟩ ?_
        refine gd_b (gX95_isThere _ _ _ ⟨K10.1.1, K10.1.2⟩  ) (fun K13 => ?_)
        refine gd_fi (fun c14_0 => ?_) (fun c14_0 => ?_)
        · exact gd_tZ (ext_tr K0.2.1 (ext_tr K3.2 (ext_tr K8.2.1 (ext_tr K10.2.1 K13.2.1)))) (gX95_oneMore_111  _ ⟨K13.1.1, K13.1.2⟩  )
        · have f15 := (ext_is K13.2.1 (Nat.zero_lt_succ _) (ext_is K10.2.1 (Nat.zero_lt_succ _) (ext_is K8.2.1 (Nat.zero_lt_succ _) (ext_is K3.2 (Nat.zero_lt_succ _) (ext_is K0.2.1 (Nat.zero_lt_succ _) n_a0)))))
          refine gd_c f15 ?_
          refine gd_b (gX95_request _ _ ((((h.2.2 c1_0).2.2.2.2 c9_0).2 c11_0).2 c14_0).1) (fun K16 => ?_)
          have f17 := (ext_is K16.2 (Nat.zero_lt_succ _) (ext_is K13.2.1 (Nat.zero_lt_succ _) (ext_is K10.2.1 (Nat.zero_lt_succ _) (ext_is K8.2.1 (Nat.zero_lt_succ _) (ext_is K3.2 (Nat.zero_lt_succ _) (ext_is K0.2.1 (Nat.zero_lt_succ _) n_a0))))))
          refine gd_c f17 ?_
          refine gd_b (gX95_put _ _ _ _ _ ((((h.2.2 c1_0).2.2.2.2 c9_0).2 c11_0).2 c14_0).2.1) (fun K18 => ?_)
          have f19 := (ext_is K18.2 (Nat.zero_lt_succ _) (ext_is K16.2 (Nat.zero_lt_succ _) (ext_is K13.2.1 (Nat.zero_lt_succ _) (ext_is K10.2.1 (Nat.zero_lt_succ _) (ext_is K8.2.1 (Nat.zero_lt_succ _) (ext_is K3.2 (Nat.zero_lt_succ _) (ext_is K0.2.1 (Nat.zero_lt_succ _) n_a0)))))))
          refine gd_c f19 ?_
          refine gd_b (gX95_put _ _ _ _ _ ((((h.2.2 c1_0).2.2.2.2 c9_0).2 c11_0).2 c14_0).2.2.1) (fun K20 => ?_)
          have f21 := (ext_is K20.2 (Nat.zero_lt_succ _) (ext_is K18.2 (Nat.zero_lt_succ _) (ext_is K16.2 (Nat.zero_lt_succ _) (ext_is K13.2.1 (Nat.zero_lt_succ _) (ext_is K10.2.1 (Nat.zero_lt_succ _) (ext_is K8.2.1 (Nat.zero_lt_succ _) (ext_is K3.2 (Nat.zero_lt_succ _) (ext_is K0.2.1 (Nat.zero_lt_succ _) n_a0))))))))
          refine gd_c f21 ?_
          refine gd_n (by decide) ?_
          have f22 := (ext_is K20.2 (Nat.zero_lt_succ _) (ext_is K18.2 (Nat.zero_lt_succ _) (ext_is K16.2 (Nat.zero_lt_succ _) (ext_is K13.2.1 (Nat.zero_lt_succ _) (ext_is K10.2.1 (Nat.zero_lt_succ _) (ext_is K8.2.1 (Nat.zero_lt_succ _) (ext_is K3.2 (Nat.zero_lt_succ _) (ext_is K0.2.1 (Nat.zero_lt_succ _) n_a0))))))))
          refine gd_c f22 ?_
          have f23 := (ext_is K20.2 (Nat.zero_lt_succ _) (ext_is K18.2 (Nat.zero_lt_succ _) (ext_is K16.2 (Nat.zero_lt_succ _) (ext_is K13.2.1 (Nat.zero_lt_succ _) (ext_is K10.2.1 (Nat.zero_lt_succ _) (ext_is K8.2.1 (Nat.zero_lt_succ _) (ext_is K3.2 (Nat.zero_lt_succ _) (ext_is K0.2.1 (Nat.zero_lt_succ _) n_a0))))))))
          refine gd_c f23 ?_
          refine gd_n (by decide) ?_
          have f24 := (ext_is K20.2 (Nat.zero_lt_succ _) (ext_is K18.2 (Nat.zero_lt_succ _) (ext_is K16.2 (Nat.zero_lt_succ _) (ext_is K13.2.1 (Nat.zero_lt_succ _) (ext_is K10.2.1 (Nat.zero_lt_succ _) (ext_is K8.2.1 (Nat.zero_lt_succ _) (ext_is K3.2 (Nat.zero_lt_succ _) (ext_is K0.2.1 (Nat.zero_lt_succ _) n_a0))))))))
          refine gd_c f24 ?_
          have f25 := (ext_is K20.2 (Nat.zero_lt_succ _) (ext_is K18.2 (Nat.zero_lt_succ _) (ext_is K16.2 (Nat.zero_lt_succ _) (ext_is K13.2.1 (Nat.zero_lt_succ _) (ext_is K10.2.1 (Nat.zero_lt_succ _) (ext_is K8.2.1 (Nat.zero_lt_succ _) (ext_is K3.2 (Nat.zero_lt_succ _) (ext_is K0.2.1 (Nat.zero_lt_succ _) n_a0))))))))
          refine gd_c f25 ?_
          have f31 := (tN_334 K20.1.1 (ext_is K20.2 (Nat.zero_lt_succ _) (ext_is K18.2 (Nat.zero_lt_succ _) (ext_is K16.2 (Nat.zero_lt_succ _) (ext_is K13.2.1 (Nat.zero_lt_succ _) (ext_is K10.2.1 (Nat.zero_lt_succ _) (ext_is K8.2.1 (Nat.zero_lt_succ _) (ext_is K3.2 (Nat.zero_lt_succ _) (ext_is K0.2.1 (Nat.zero_lt_succ _) n_a0)))))))))
          have f32 := (fm_inl (i := (Int32.ofInt 2)) (tL_334 K20.1.1 (ext_is K20.2 (Nat.zero_lt_succ _) (ext_is K18.2 (Nat.zero_lt_succ _) (ext_is K16.2 (Nat.zero_lt_succ _) (ext_is K13.2.1 (Nat.zero_lt_succ _) (ext_is K10.2.1 (Nat.zero_lt_succ _) (ext_is K8.2.1 (Nat.zero_lt_succ _) (ext_is K3.2 (Nat.zero_lt_succ _) (ext_is K0.2.1 (Nat.zero_lt_succ _) n_a0))))))))) (by decide))
          refine gd_c ⟨f31, f32⟩ ?_
          have f26 := (ext_is K20.2 (Nat.zero_lt_succ _) (ext_is K18.2 (Nat.zero_lt_succ _) (ext_is K16.2 (Nat.zero_lt_succ _) (ext_is K13.2.1 (Nat.zero_lt_succ _) (ext_is K10.2.1 (Nat.zero_lt_succ _) (ext_is K8.2.1 (Nat.zero_lt_succ _) (ext_is K3.2 (Nat.zero_lt_succ _) (ext_is K0.2.1 (Nat.zero_lt_succ _) n_a0))))))))
          refine gd_c f26 ?_
          have f27 := (ext_is K20.2 (Nat.zero_lt_succ _) (ext_is K18.2 (Nat.zero_lt_succ _) (ext_is K16.2 (Nat.zero_lt_succ _) (ext_is K13.2.1 (Nat.zero_lt_succ _) (ext_is K10.2.1 (Nat.zero_lt_succ _) (ext_is K8.2.1 (Nat.zero_lt_succ _) (ext_is K3.2 (Nat.zero_lt_succ _) (ext_is K0.2.1 (Nat.zero_lt_succ _) n_a0))))))))
          refine gd_c f27 ?_
          refine gd_b (gX95_put _ _ _ _ _ ((((h.2.2 c1_0).2.2.2.2 c9_0).2 c11_0).2 c14_0).2.2.2.1) (fun K28 => ?_)
          have f29 := (ext_is K28.2 (Nat.zero_lt_succ _) (ext_is K20.2 (Nat.zero_lt_succ _) (ext_is K18.2 (Nat.zero_lt_succ _) (ext_is K16.2 (Nat.zero_lt_succ _) (ext_is K13.2.1 (Nat.zero_lt_succ _) (ext_is K10.2.1 (Nat.zero_lt_succ _) (ext_is K8.2.1 (Nat.zero_lt_succ _) (ext_is K3.2 (Nat.zero_lt_succ _) (ext_is K0.2.1 (Nat.zero_lt_succ _) n_a0)))))))))
          refine gd_c f29 ?_
          have f30 := (ext_is K28.2 (Nat.zero_lt_succ _) (ext_is K20.2 (Nat.zero_lt_succ _) (ext_is K18.2 (Nat.zero_lt_succ _) (ext_is K16.2 (Nat.zero_lt_succ _) (ext_is K13.2.1 (Nat.zero_lt_succ _) (ext_is K10.2.1 (Nat.zero_lt_succ _) (ext_is K8.2.1 (Nat.zero_lt_succ _) (ext_is K3.2 (Nat.zero_lt_succ _) (ext_is K0.2.1 (Nat.zero_lt_succ _) n_a0)))))))))
          refine gd_c f30 ?_
          exact gd_z fz_1 ⟨K28.1.1, (tyb_sI (f := 337) rfl K28.1.2)⟩ (ext_tr K0.2.1 (ext_tr K3.2 (ext_tr K8.2.1 (ext_tr K10.2.1 (ext_tr K13.2.1 (ext_tr K16.2 (ext_tr K18.2 (ext_tr K20.2 (ext_dI (ext_dI (ext_tr K28.2 (ext_dI (ext_r _))))))))))))) rfl
noncomputable def GX95_oneMore (a0 : Nat) (M : FM) : Int32 × FM := GX95_oneMore_0 a0 M
def HX95_oneMore (a0 : Nat) (M : FM) : Prop := HX95_oneMore_0 a0 M
theorem gX95_oneMore (a0 : Nat) (M : FM) (T : Ty M) (n_a0 : fm_is M 93 93 a0 = true) (h : HX95_oneMore a0 M) : gd (FX95_oneMore fN a0 M) (GX95_oneMore a0 M) (OkZ M) := gX95_oneMore_0 a0 M T n_a0 h
