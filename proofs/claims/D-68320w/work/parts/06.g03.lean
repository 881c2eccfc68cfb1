/-! functions without guards, printed by gen/gg.py -/
set_option maxRecDepth 100000
noncomputable def GX78_summary_17 (s0 : Int64) (M : FM) : Int64 × FM :=
  (s0, M)
theorem gX78_summary_17 (s0 : Int64) (M : FM) (T : Ty M) : gd (FX78_summary_17 s0 M) (GX78_summary_17 s0 M) (OkR M) := by
  delta FX78_summary_17 BX78_summary_17
  exact ⟨rfl, ⟨T.1, T.2⟩, (ext_r _)⟩
noncomputable def GX78_summary_0 (a0 : Nat) (M : FM) : Int64 × FM :=
  let r1 : Int32 × FM := GX78_two a0 (Int32.ofInt 13) M
  fi (r1.1 = (Int32.ofInt 3)) (
    GX78_summary_17 (Int64.ofInt (-9223372036854775808)) r1.2) (
    GX78_summary_17 (Int64.ofInt 0) r1.2)
theorem gX78_summary_0 (a0 : Nat) (M : FM) (T : Ty M) (n_a0 : fm_is M 16 16 a0 = true) : gd (FX78_summary_0 a0 M) (GX78_summary_0 a0 M) (OkR M) := by
  delta FX78_summary_0 BX78_summary_0
  refine gd_c n_a0 ?_
  refine gd_b (gX78_two _ _ _ ⟨T.1, T.2⟩ n_a0 ) (fun K0 => ?_)
  refine gd_fi (fun c1_0 => ?_) (fun c1_0 => ?_)
  · exact gd_tR K0.2 (gX78_summary_17 _ _ ⟨K0.1.1, K0.1.2⟩  )
  · exact gd_tR K0.2 (gX78_summary_17 _ _ ⟨K0.1.1, K0.1.2⟩  )
noncomputable def GX78_summary (a0 : Nat) (M : FM) : Int64 × FM := GX78_summary_0 a0 M
theorem gX78_summary (a0 : Nat) (M : FM) (T : Ty M) (n_a0 : fm_is M 16 16 a0 = true) : gd (FX78_summary a0 M) (GX78_summary a0 M) (OkR M) := gX78_summary_0 a0 M T n_a0 
noncomputable def GX78_show_0 (a0 : Nat) (M : FM) : Int64 × FM :=
  let r1 : Int64 × FM := GX78_summary a0 M
  ((((M.2.1 41 a0 0) ||| (Int64.ofInt 42949672960)) ||| r1.1), r1.2)
theorem gX78_show_0 (a0 : Nat) (M : FM) (T : Ty M) (n_a0 : fm_is M 16 16 a0 = true) : gd (FX78_show_0 a0 M) (GX78_show_0 a0 M) (OkR M) := by
  delta FX78_show_0 BX78_show_0
  refine gd_c n_a0 ?_
  refine gd_c n_a0 ?_
  refine gd_b (gX78_summary _ _ ⟨T.1, T.2⟩ n_a0 ) (fun K0 => ?_)
  exact ⟨rfl, ⟨K0.1.1, K0.1.2⟩, K0.2⟩
noncomputable def GX78_show (a0 : Nat) (M : FM) : Int64 × FM := GX78_show_0 a0 M
theorem gX78_show (a0 : Nat) (M : FM) (T : Ty M) (n_a0 : fm_is M 16 16 a0 = true) : gd (FX78_show a0 M) (GX78_show a0 M) (OkR M) := gX78_show_0 a0 M T n_a0 
noncomputable def GX74_waiting_0 (a0 : Nat) (M : FM) : Int64 × FM :=
  let x1 : Nat := (M.2.2 31 a0 0)
  let r2 : Int64 × FM := GX79_show x1 M
  let x3 : Nat := (r2.2.2.2 30 a0 0)
  let r4 : Int64 × FM := (fi (fm_is r2.2 14 14 x3 = true) (GX77_show x3 r2.2) ((fi (fm_is r2.2 15 15 x3 = true) (GX79_show x3 r2.2) ((fi (fm_is r2.2 16 16 x3 = true) (GX78_show x3 r2.2) (GX77_show x3 r2.2))))))
  ((r2.1 &&& r4.1), r4.2)
theorem gX74_waiting_0 (a0 : Nat) (M : FM) (T : Ty M) (n_a0 : fm_is M 12 12 a0 = true) : gd (FX74_waiting_0 a0 M) (GX74_waiting_0 a0 M) (OkR M) := by
  delta FX74_waiting_0 BX74_waiting_0
  refine gd_c n_a0 ?_
  have f0 := (tN_31 T.1 n_a0)
  refine gd_c f0 ?_
  have f8 := (tN_31 T.1 n_a0)
  refine gd_b (gX79_show _ _ ⟨T.1, T.2⟩ f8 ) (fun K1 => ?_)
  have f2 := (ext_is K1.2 (Nat.zero_lt_succ _) n_a0)
  refine gd_c f2 ?_
  have f3 := (tN_30 K1.1.1 (ext_is K1.2 (Nat.zero_lt_succ _) n_a0))
  refine gd_kb (gk_fi (gk_b _ _) (gk_fi (gk_b _ _) (gk_fi (gk_b _ _) (gk_fi (gk_b _ _) gk_0)))) (gd_fi (fun c4 => (gX77_show _ _ ⟨K1.1.1, K1.1.2⟩ (fm_w (lo' := 14) (hi' := 17) rfl rfl c4) )) (fun c4 => (gd_fi (fun c5 => (gX79_show _ _ ⟨K1.1.1, K1.1.2⟩ c5 )) (fun c5 => (gd_fi (fun c6 => (gX78_show _ _ ⟨K1.1.1, K1.1.2⟩ c6 )) (fun c6 => (gd_c (fm_up (fm_up (fm_up f3 c4) c5) c6) (gX77_show _ _ ⟨K1.1.1, K1.1.2⟩ (fm_w (lo' := 14) (hi' := 17) rfl rfl (fm_up (fm_up (fm_up f3 c4) c5) c6)) )))))))) (fun K7 => ?_)
  exact ⟨rfl, ⟨K7.1.1, K7.1.2⟩, (ext_tr K1.2 K7.2)⟩
noncomputable def GX74_waiting (a0 : Nat) (M : FM) : Int64 × FM := GX74_waiting_0 a0 M
theorem gX74_waiting (a0 : Nat) (M : FM) (T : Ty M) (n_a0 : fm_is M 12 12 a0 = true) : gd (FX74_waiting a0 M) (GX74_waiting a0 M) (OkR M) := gX74_waiting_0 a0 M T n_a0 
noncomputable def GX78_has_18 (s0 : Int32) (M : FM) : Int32 × FM :=
  (s0, M)
theorem gX78_has_18 (s0 : Int32) (M : FM) (T : Ty M) (z_s0 : s0 = 0 ∨ s0 = 1) : gd (FX78_has_18 s0 M) (GX78_has_18 s0 M) (OkZ M) := by
  delta FX78_has_18 BX78_has_18
  exact gd_z z_s0 ⟨T.1, T.2⟩ (ext_r _) rfl
noncomputable def GX78_has_0 (a0 : Nat) (a1 : Int32) (M : FM) : Int32 × FM :=
  fi ((lg_cmp (((M.2.1 41 a0 0) >>> (a1.toInt64 &&& 63)) &&& (Int64.ofInt 1)) (Int64.ofInt 1)) = 0) (
    GX78_has_18 (Int32.ofInt 1) M) (
    GX78_has_18 (Int32.ofInt 0) M)
theorem gX78_has_0 (a0 : Nat) (a1 : Int32) (M : FM) (T : Ty M) (n_a0 : fm_is M 16 16 a0 = true) : gd (FX78_has_0 a0 a1 M) (GX78_has_0 a0 a1 M) (OkZ M) := by
  delta FX78_has_0 BX78_has_0
  refine gd_c n_a0 ?_
  refine gd_fi (fun c0_0 => ?_) (fun c0_0 => ?_)
  · exact gd_tZ (ext_r _) (gX78_has_18 _ _ ⟨T.1, T.2⟩ fz_1 )
  · exact gd_tZ (ext_r _) (gX78_has_18 _ _ ⟨T.1, T.2⟩ fz_0 )
noncomputable def GX78_has (a0 : Nat) (a1 : Int32) (M : FM) : Int32 × FM := GX78_has_0 a0 a1 M
theorem gX78_has (a0 : Nat) (a1 : Int32) (M : FM) (T : Ty M) (n_a0 : fm_is M 16 16 a0 = true) : gd (FX78_has a0 a1 M) (GX78_has a0 a1 M) (OkZ M) := gX78_has_0 a0 a1 M T n_a0 
def kX74_first (k12 : Int64 → Nat → Int32 → Int32 → FM → Option (Int32 × FM)) : (Int64 × Nat × Int32 × Int32 × FM) ⊕ (Int32 × FM) → Option (Int32 × FM)
  | .inl (v0, v1, v2, v3, M') => k12 v0 v1 v2 v3 M'
  | .inr (r) => some r
def pX74_first (M : FM) : (Int64 × Nat × Int32 × Int32 × FM) ⊕ (Int32 × FM) → Prop
  | .inl (_, _, _, _, M') => OkV M M'
  | .inr (r) => OkR M r
theorem pX74_first_t {M M1 : FM} (e : Ext M M1) : ∀ y, pX74_first M1 y → pX74_first M y
  | .inl (_, _, _, _, _), h => ⟨h.1, ext_tr e h.2⟩
  | .inr (r), h => ⟨h.1, ext_tr e h.2⟩
noncomputable def GX74_first_0 (a0 : Nat) (a1 : Int64) (M : FM) : (Int64 × Nat × Int32 × Int32 × FM) ⊕ (Int32 × FM) :=
  let x1 : Nat := (M.2.2 24 a0 0)
  let x2 : Int32 := (Int32.ofNat (M.2.2 1 x1 0))
  (.inl (a1, x1, x2, (Int32.ofInt 0), M))
theorem gX74_first_0 (k12 : Int64 → Nat → Int32 → Int32 → FM → Option (Int32 × FM)) (a0 : Nat) (a1 : Int64) (M : FM) (T : Ty M) (n_a0 : fm_is M 12 12 a0 = true) : gs (FX74_first_0 fN k12 a0 a1 M) (GX74_first_0 a0 a1 M) (kX74_first k12) (pX74_first M) := by
  delta FX74_first_0 BX74_first_0
  refine gs_c n_a0 ?_
  have f0 := (fm_w (lo' := 901) (hi' := 990) rfl rfl (tN_24 T.1 n_a0))
  refine gs_c f0 ?_
  exact And.intro rfl (And.intro (And.intro T.1 T.2) ((ext_r _)))
noncomputable def GX74_first_12 (a1 : Int64) (a3 : Nat) (a4 : Int32) (a5 : Int32) (M : FM) : (Int64 × Nat × Int32 × Int32 × FM) ⊕ (Int32 × FM) :=
  fi (a4 ≤ a5) (
    (.inr ((Int32.ofInt (-1)), M))) (
    let x1 : Int32 := (M.1 3 a3 a5.toNatClampNeg)
    fi ((lg_cmp ((a1 >>> (x1.toInt64 &&& 63)) &&& (Int64.ofInt 1)) (Int64.ofInt 1)) = 0) (
      (.inr (x1, M))) (
      let x2 : Int32 := a5 + (Int32.ofInt 1)
      (.inl (a1, a3, a4, x2, M))))
def HX74_first_12 (a1 : Int64) (a3 : Nat) (a4 : Int32) (a5 : Int32) (M : FM) : Prop := ((a4 ≤ a5 → True) ∧ (¬ (a4 ≤ a5) → (fm_in M a3 a5 = true ∧ True)))
theorem gX74_first_12 (k12 : Int64 → Nat → Int32 → Int32 → FM → Option (Int32 × FM)) (a1 : Int64) (a3 : Nat) (a4 : Int32) (a5 : Int32) (M : FM) (T : Ty M) (n_a3 : fm_is M 901 901 a3 = true) (h : HX74_first_12 a1 a3 a4 a5 M) : gs (FX74_first_12 fN k12 a1 a3 a4 a5 M) (GX74_first_12 a1 a3 a4 a5 M) (kX74_first k12) (pX74_first M) := by
  delta FX74_first_12 BX74_first_12
  refine gs_fi (fun c0_0 => ?_) (fun c0_0 => ?_)
  · exact And.intro rfl (And.intro (And.intro T.1 T.2) ((ext_r _)))
  · refine gs_c ⟨n_a3, (h.2 c0_0).1⟩ ?_
    refine gs_fi (fun c1_0 => ?_) (fun c1_0 => ?_)
    · exact And.intro rfl (And.intro (And.intro T.1 T.2) ((ext_r _)))
    · exact And.intro rfl (And.intro (And.intro T.1 T.2) ((ext_r _)))
noncomputable def GX74_first (a0 : Nat) (a1 : Int64) (M : FM) : Int32 × FM := (FX74_first fN a0 a1 M).getD (0, M)
def HX74_first (a0 : Nat) (a1 : Int64) (M : FM) : Prop := ∃ r, FX74_first fN a0 a1 M = some r ∧ OkR M r
theorem gX74_first (a0 : Nat) (a1 : Int64) (M : FM) (h : HX74_first a0 a1 M) : gd (FX74_first fN a0 a1 M) (GX74_first a0 a1 M) (OkR M) := gd_op h
noncomputable def GX74_taken_115 (s0 : Int32) (M : FM) : Int32 × FM :=
  (s0, M)
theorem gX74_taken_115 (s0 : Int32) (M : FM) (T : Ty M) : gd (FX74_taken_115 fN s0 M) (GX74_taken_115 s0 M) (OkR M) := by
  delta FX74_taken_115 BX74_taken_115
  exact ⟨rfl, ⟨T.1, T.2⟩, (ext_r _)⟩
noncomputable def GX74_taken_100 (a5 : Int32) (M : FM) : Int32 × FM :=
  GX74_taken_115 a5 M
theorem gX74_taken_100 (a5 : Int32) (M : FM) (T : Ty M) : gd (FX74_taken_100 fN a5 M) (GX74_taken_100 a5 M) (OkR M) := by
  delta FX74_taken_100 BX74_taken_100
  exact gd_tR (ext_r _) (gX74_taken_115 _ _ ⟨T.1, T.2⟩  )
noncomputable def GX74_taken_88 (a0 : Nat) (a1 : Int64) (a4 : Int32) (s0 : Int32) (M : FM) : Int32 × FM :=
  fi (0 ≤ s0) (
    GX74_taken_100 s0 M) (
    fi (a4 = 0) (
      GX74_taken_100 s0 M) (
      let r1 : Int64 × FM := GX74_waiting a0 M
      let r2 : Int32 × FM := GX74_first a0 (r1.1 &&& a1) r1.2
      GX74_taken_115 r2.1 r2.2))
def HX74_taken_88 (a0 : Nat) (a1 : Int64) (a4 : Int32) (s0 : Int32) (M : FM) : Prop := ((0 ≤ s0 → True) ∧ (¬ (0 ≤ s0) → ((a4 = 0 → True) ∧ (¬ (a4 = 0) → let r1 : Int64 × FM := GX74_waiting a0 M; (HX74_first a0 (r1.1 &&& a1) r1.2 ∧ True)))))
theorem gX74_taken_88 (a0 : Nat) (a1 : Int64) (a4 : Int32) (s0 : Int32) (M : FM) (T : Ty M) (n_a0 : fm_is M 12 12 a0 = true) (h : HX74_taken_88 a0 a1 a4 s0 M) : gd (FX74_taken_88 fN a0 a1 a4 s0 M) (GX74_taken_88 a0 a1 a4 s0 M) (OkR M) := by
  delta FX74_taken_88 BX74_taken_88
  refine gd_fi (fun c0_0 => ?_) (fun c0_0 => ?_)
  · exact gd_tR (ext_r _) (gX74_taken_100 _ _ ⟨T.1, T.2⟩  )
  · refine gd_fi (fun c1_0 => ?_) (fun c1_0 => ?_)
    · exact gd_tR (ext_r _) (gX74_taken_100 _ _ ⟨T.1, T.2⟩  )
    · refine gd_c n_a0 ?_
      refine gd_b (gX74_waiting _ _ ⟨T.1, T.2⟩ n_a0 ) (fun K2 => ?_)
      have f3 := (ext_is K2.2 (Nat.zero_lt_succ _) n_a0)
      refine gd_c f3 ?_
      refine gd_b (gX74_first _ _ _ ((h.2 c0_0).2 c1_0).1) (fun K4 => ?_)
      exact gd_tR (ext_tr K2.2 K4.2) (gX74_taken_115 _ _ ⟨K4.1.1, K4.1.2⟩  )
noncomputable def GX74_taken_64 (a0 : Nat) (a1 : Int64) (a3 : Int32) (s0 : Int32) (M : FM) : Int32 × FM :=
  fi (a3 = 0) (
    GX74_taken_88 a0 a1 s0 (Int32.ofInt (-1)) M) (
    let r1 : Int64 × FM := GX74_waiting a0 M
    let r2 : Int32 × FM := GX74_first a0 (r1.1 &&& (a1 ^^^ (Int64.ofInt (-1)))) r1.2
    GX74_taken_88 a0 a1 s0 r2.1 r2.2)
def HX74_taken_64 (a0 : Nat) (a1 : Int64) (a3 : Int32) (s0 : Int32) (M : FM) : Prop := ((a3 = 0 → HX74_taken_88 a0 a1 s0 (Int32.ofInt (-1)) M) ∧ (¬ (a3 = 0) → let r1 : Int64 × FM := GX74_waiting a0 M; (HX74_first a0 (r1.1 &&& (a1 ^^^ (Int64.ofInt (-1)))) r1.2 ∧ let r2 : Int32 × FM := GX74_first a0 (r1.1 &&& (a1 ^^^ (Int64.ofInt (-1)))) r1.2; HX74_taken_88 a0 a1 s0 r2.1 r2.2)))
theorem gX74_taken_64 (a0 : Nat) (a1 : Int64) (a3 : Int32) (s0 : Int32) (M : FM) (T : Ty M) (n_a0 : fm_is M 12 12 a0 = true) (h : HX74_taken_64 a0 a1 a3 s0 M) : gd (FX74_taken_64 fN a0 a1 a3 s0 M) (GX74_taken_64 a0 a1 a3 s0 M) (OkR M) := by
  delta FX74_taken_64 BX74_taken_64
  refine gd_fi (fun c0_0 => ?_) (fun c0_0 => ?_)
  · exact gd_tR (ext_r _) (gX74_taken_88 _ _ _ _ _ ⟨T.1, T.2⟩ n_a0 (h.1 c0_0))
  · refine gd_c n_a0 ?_
    refine gd_b (gX74_waiting _ _ ⟨T.1, T.2⟩ n_a0 ) (fun K1 => ?_)
    have f2 := (ext_is K1.2 (Nat.zero_lt_succ _) n_a0)
    refine gd_c f2 ?_
    refine gd_b (gX74_first _ _ _ (h.2 c0_0).1) (fun K3 => ?_)
    have f4 := (ext_is K3.2 (Nat.zero_lt_succ _) (ext_is K1.2 (Nat.zero_lt_succ _) n_a0))
    exact gd_tR (ext_tr K1.2 K3.2) (gX74_taken_88 _ _ _ _ _ ⟨K3.1.1, K3.1.2⟩ f4 (h.2 c0_0).2)
noncomputable def GX74_taken_63 (a0 : Nat) (a1 : Int64) (a3 : Int32) (M : FM) : Int32 × FM :=
  GX74_taken_64 a0 a1 a3 (Int32.ofInt 0) M
def HX74_taken_63 (a0 : Nat) (a1 : Int64) (a3 : Int32) (M : FM) : Prop := HX74_taken_64 a0 a1 a3 (Int32.ofInt 0) M
theorem gX74_taken_63 (a0 : Nat) (a1 : Int64) (a3 : Int32) (M : FM) (T : Ty M) (n_a0 : fm_is M 12 12 a0 = true) (h : HX74_taken_63 a0 a1 a3 M) : gd (FX74_taken_63 fN a0 a1 a3 M) (GX74_taken_63 a0 a1 a3 M) (OkR M) := by
  delta FX74_taken_63 BX74_taken_63
  exact gd_tR (ext_r _) (gX74_taken_64 _ _ _ _ _ ⟨T.1, T.2⟩ n_a0 h)
noncomputable def GX74_taken_59 (a0 : Nat) (a1 : Int64) (a3 : Int32) (M : FM) : Int32 × FM :=
  GX74_taken_64 a0 a1 a3 (Int32.ofInt 1) M
def HX74_taken_59 (a0 : Nat) (a1 : Int64) (a3 : Int32) (M : FM) : Prop := HX74_taken_64 a0 a1 a3 (Int32.ofInt 1) M
theorem gX74_taken_59 (a0 : Nat) (a1 : Int64) (a3 : Int32) (M : FM) (T : Ty M) (n_a0 : fm_is M 12 12 a0 = true) (h : HX74_taken_59 a0 a1 a3 M) : gd (FX74_taken_59 fN a0 a1 a3 M) (GX74_taken_59 a0 a1 a3 M) (OkR M) := by
  delta FX74_taken_59 BX74_taken_59
  exact gd_tR (ext_r _) (gX74_taken_64 _ _ _ _ _ ⟨T.1, T.2⟩ n_a0 h)
noncomputable def GX74_taken_32 (a0 : Nat) (a1 : Int64) (s0 : Int32) (M : FM) : Int32 × FM :=
  fi ((M.1 37 a0 0) = 0) (
    GX74_taken_59 a0 a1 s0 M) (
    fi ((M.1 37 a0 0) = (Int32.ofInt 1)) (
      let x1 : Nat := (M.2.2 27 a0 0)
      let r2 : Int32 × FM := GX78_has x1 (Int32.ofInt 1) M
      fi (r2.1 = 0) (
        GX74_taken_63 a0 a1 s0 r2.2) (
        GX74_taken_59 a0 a1 s0 r2.2)) (
      GX74_taken_63 a0 a1 s0 M))
def HX74_taken_32 (a0 : Nat) (a1 : Int64) (s0 : Int32) (M : FM) : Prop := (((M.1 37 a0 0) = 0 → HX74_taken_59 a0 a1 s0 M) ∧ (¬ ((M.1 37 a0 0) = 0) → (((M.1 37 a0 0) = (Int32.ofInt 1) → let x1 : Nat := (M.2.2 27 a0 0); let r2 : Int32 × FM := GX78_has x1 (Int32.ofInt 1) M; ((r2.1 = 0 → HX74_taken_63 a0 a1 s0 r2.2) ∧ (¬ (r2.1 = 0) → HX74_taken_59 a0 a1 s0 r2.2))) ∧ (¬ ((M.1 37 a0 0) = (Int32.ofInt 1)) → HX74_taken_63 a0 a1 s0 M))))
theorem gX74_taken_32 (a0 : Nat) (a1 : Int64) (s0 : Int32) (M : FM) (T : Ty M) (n_a0 : fm_is M 12 12 a0 = true) (h : HX74_taken_32 a0 a1 s0 M) : gd (FX74_taken_32 fN a0 a1 s0 M) (GX74_taken_32 a0 a1 s0 M) (OkR M) := by
  delta FX74_taken_32 BX74_taken_32
  refine gd_c n_a0 ?_
  refine gd_fi (fun c0_0 => ?_) (fun c0_0 => ?_)
  · exact gd_tR (ext_r _) (gX74_taken_59 _ _ _ _ ⟨T.1, T.2⟩ n_a0 (h.1 c0_0))
  · refine gd_c n_a0 ?_
    refine gd_fi (fun c1_0 => ?_) (fun c1_0 => ?_)
    · refine gd_c n_a0 ?_
      have f2 := (tN_27 T.1 n_a0)
      refine gd_c f2 ?_
      have f7 := (tN_27 T.1 n_a0)
      refine gd_b (gX78_has _ _ _ ⟨T.1, T.2⟩ f7 ) (fun K3 => ?_)
      refine gd_fi (fun c4_0 => ?_) (fun c4_0 => ?_)
      · have f5 := (ext_is K3.2.1 (Nat.zero_lt_succ _) n_a0)
        exact gd_tR K3.2.1 (gX74_taken_63 _ _ _ _ ⟨K3.1.1, K3.1.2⟩ f5 (((h.2 c0_0).1 c1_0).1 c4_0))
      · have f6 := (ext_is K3.2.1 (Nat.zero_lt_succ _) n_a0)
        exact gd_tR K3.2.1 (gX74_taken_59 _ _ _ _ ⟨K3.1.1, K3.1.2⟩ f6 (((h.2 c0_0).1 c1_0).2 c4_0))
    · exact gd_tR (ext_r _) (gX74_taken_63 _ _ _ _ ⟨T.1, T.2⟩ n_a0 ((h.2 c0_0).2 c1_0))
noncomputable def GX74_taken_27 (a0 : Nat) (a1 : Int64) (M : FM) : Int32 × FM :=
  GX74_taken_32 a0 a1 (Int32.ofInt 1) M
def HX74_taken_27 (a0 : Nat) (a1 : Int64) (M : FM) : Prop := HX74_taken_32 a0 a1 (Int32.ofInt 1) M
theorem gX74_taken_27 (a0 : Nat) (a1 : Int64) (M : FM) (T : Ty M) (n_a0 : fm_is M 12 12 a0 = true) (h : HX74_taken_27 a0 a1 M) : gd (FX74_taken_27 fN a0 a1 M) (GX74_taken_27 a0 a1 M) (OkR M) := by
  delta FX74_taken_27 BX74_taken_27
  exact gd_tR (ext_r _) (gX74_taken_32 _ _ _ _ ⟨T.1, T.2⟩ n_a0 h)
noncomputable def GX74_taken_0 (a0 : Nat) (M : FM) : Int32 × FM :=
  let x1 : Nat := (M.2.2 29 a0 0)
  let r2 : Int64 × FM := (fi (fm_is M 14 14 x1 = true) (GX77_show x1 M) ((fi (fm_is M 15 15 x1 = true) (GX79_show x1 M) ((fi (fm_is M 16 16 x1 = true) (GX78_show x1 M) (GX77_show x1 M))))))
  fi ((r2.2.1 37 a0 0) = (Int32.ofInt 3)) (
    let x3 : Nat := (r2.2.2.2 27 a0 0)
    let r4 : Int32 × FM := GX78_has x3 (Int32.ofInt 3) r2.2
    fi (r4.1 = 0) (
      GX74_taken_32 a0 r2.1 (Int32.ofInt 0) r4.2) (
      GX74_taken_27 a0 r2.1 r4.2)) (
    GX74_taken_27 a0 r2.1 r2.2)
def HX74_taken_0 (a0 : Nat) (M : FM) : Prop := let x1 : Nat := (M.2.2 29 a0 0); let r2 : Int64 × FM := (fi (fm_is M 14 14 x1 = true) (GX77_show x1 M) ((fi (fm_is M 15 15 x1 = true) (GX79_show x1 M) ((fi (fm_is M 16 16 x1 = true) (GX78_show x1 M) (GX77_show x1 M)))))); (((r2.2.1 37 a0 0) = (Int32.ofInt 3) → let x3 : Nat := (r2.2.2.2 27 a0 0); let r4 : Int32 × FM := GX78_has x3 (Int32.ofInt 3) r2.2; ((r4.1 = 0 → HX74_taken_32 a0 r2.1 (Int32.ofInt 0) r4.2) ∧ (¬ (r4.1 = 0) → HX74_taken_27 a0 r2.1 r4.2))) ∧ (¬ ((r2.2.1 37 a0 0) = (Int32.ofInt 3)) → HX74_taken_27 a0 r2.1 r2.2))
theorem gX74_taken_0 (a0 : Nat) (M : FM) (T : Ty M) (n_a0 : fm_is M 12 12 a0 = true) (h : HX74_taken_0 a0 M) : gd (FX74_taken_0 fN a0 M) (GX74_taken_0 a0 M) (OkR M) := by
  delta FX74_taken_0 BX74_taken_0
  refine gd_c n_a0 ?_
  have f0 := (tN_29 T.1 n_a0)
  refine gd_kb (gk_fi (gk_b _ _) (gk_fi (gk_b _ _) (gk_fi (gk_b _ _) (gk_fi (gk_b _ _) gk_0)))) (gd_fi (fun c1 => (gX77_show _ _ ⟨T.1, T.2⟩ (fm_w (lo' := 14) (hi' := 17) rfl rfl c1) )) (fun c1 => (gd_fi (fun c2 => (gX79_show _ _ ⟨T.1, T.2⟩ c2 )) (fun c2 => (gd_fi (fun c3 => (gX78_show _ _ ⟨T.1, T.2⟩ c3 )) (fun c3 => (gd_c (fm_up (fm_up (fm_up f0 c1) c2) c3) (gX77_show _ _ ⟨T.1, T.2⟩ (fm_w (lo' := 14) (hi' := 17) rfl rfl (fm_up (fm_up (fm_up f0 c1) c2) c3)) )))))))) (fun K4 => ?_)
  have f5 := (ext_is K4.2 (Nat.zero_lt_succ _) n_a0)
  refine gd_c f5 ?_
  refine gd_fi (fun c6_0 => ?_) (fun c6_0 => ?_)
  · have f7 := (ext_is K4.2 (Nat.zero_lt_succ _) n_a0)
    refine gd_c f7 ?_
    have f8 := (tN_27 K4.1.1 (ext_is K4.2 (Nat.zero_lt_succ _) n_a0))
    refine gd_c f8 ?_
    have f13 := (tN_27 K4.1.1 (ext_is K4.2 (Nat.zero_lt_succ _) n_a0))
    refine gd_b (gX78_has _ _ _ ⟨K4.1.1, K4.1.2⟩ f13 ) (fun K9 => ?_)
    refine gd_fi (fun c10_0 => ?_) (fun c10_0 => ?_)
    · have f11 := (ext_is K9.2.1 (Nat.zero_lt_succ _) (ext_is K4.2 (Nat.zero_lt_succ _) n_a0))
      exact gd_tR (ext_tr K4.2 K9.2.1) (gX74_taken_32 _ _ _ _ ⟨K9.1.1, K9.1.2⟩ f11 ((h.1 c6_0).1 c10_0))
    · have f12 := (ext_is K9.2.1 (Nat.zero_lt_succ _) (ext_is K4.2 (Nat.zero_lt_succ _) n_a0))
      exact gd_tR (ext_tr K4.2 K9.2.1) (gX74_taken_27 _ _ _ ⟨K9.1.1, K9.1.2⟩ f12 ((h.1 c6_0).2 c10_0))
  · have f14 := (ext_is K4.2 (Nat.zero_lt_succ _) n_a0)
    exact gd_tR K4.2 (gX74_taken_27 _ _ _ ⟨K4.1.1, K4.1.2⟩ f14 (h.2 c6_0))
noncomputable def GX74_taken (a0 : Nat) (M : FM) : Int32 × FM := GX74_taken_0 a0 M
def HX74_taken (a0 : Nat) (M : FM) : Prop := HX74_taken_0 a0 M
theorem gX74_taken (a0 : Nat) (M : FM) (T : Ty M) (n_a0 : fm_is M 12 12 a0 = true) (h : HX74_taken a0 M) : gd (FX74_taken fN a0 M) (GX74_taken a0 M) (OkR M) := gX74_taken_0 a0 M T n_a0 h
noncomputable def GX46_counter_0 (a0 : Nat) (M : FM) : Int64 × FM :=
  let x1 : Nat := (M.2.2 211 a0 0)
  let x2 : Nat := (M.2.2 171 x1 0)
  ((M.2.1 179 x2 0), M)
theorem gX46_counter_0 (a0 : Nat) (M : FM) (T : Ty M) (n_a0 : fm_is M 75 75 a0 = true) : gd (FX46_counter_0 a0 M) (GX46_counter_0 a0 M) (OkR M) := by
  delta FX46_counter_0 BX46_counter_0
  refine gd_c n_a0 ?_
  have f0 := (tN_211 T.1 n_a0)
  refine gd_c f0 ?_
  have f1 := (tN_171 T.1 (tN_211 T.1 n_a0))
  refine gd_c f1 ?_
  exact ⟨rfl, ⟨T.1, T.2⟩, (ext_r _)⟩
noncomputable def GX46_counter (a0 : Nat) (M : FM) : Int64 × FM := GX46_counter_0 a0 M
theorem gX46_counter (a0 : Nat) (M : FM) (T : Ty M) (n_a0 : fm_is M 75 75 a0 = true) : gd (FX46_counter a0 M) (GX46_counter a0 M) (OkR M) := gX46_counter_0 a0 M T n_a0 
noncomputable def GX102_bits_0 (a0 : Int64) (a2 : Int32) (a3 : Int32) (M : FM) : Int64 × FM :=
  (((a0.toUInt64 >>> (a2.toInt64.toUInt64 &&& Int64.toUInt64 63)).toInt64 &&& (((Int64.ofInt 1) <<< (a3.toInt64 &&& 63)) - (Int64.ofInt 1))), M)
theorem gX102_bits_0 (a0 : Int64) (a2 : Int32) (a3 : Int32) (M : FM) (T : Ty M) : gd (FX102_bits_0 a0 a2 a3 M) (GX102_bits_0 a0 a2 a3 M) (OkR M) := by
  delta FX102_bits_0 BX102_bits_0
  exact ⟨rfl, ⟨T.1, T.2⟩, (ext_r _)⟩
noncomputable def GX102_bits (a0 : Int64) (a2 : Int32) (a3 : Int32) (M : FM) : Int64 × FM := GX102_bits_0 a0 a2 a3 M
theorem gX102_bits (a0 : Int64) (a2 : Int32) (a3 : Int32) (M : FM) (T : Ty M) : gd (FX102_bits a0 a2 a3 M) (GX102_bits a0 a2 a3 M) (OkR M) := gX102_bits_0 a0 a2 a3 M T 
noncomputable def GX84_fault_0 (a0 : Nat) (a1 : Int32) (a2 : Int32) (M : FM) : Int64 × FM :=
  let x1 : Nat := (M.2.2 286 a0 0)
  let x2 : Nat := (M.2.2 3 x1 a1.toNatClampNeg)
  ((-(M.1 3 x2 a2.toNatClampNeg)).toInt64, M)
def HX84_fault_0 (a0 : Nat) (a1 : Int32) (a2 : Int32) (M : FM) : Prop := let x1 : Nat := (M.2.2 286 a0 0); (fm_in M x1 a1 = true ∧ let x2 : Nat := (M.2.2 3 x1 a1.toNatClampNeg); (fm_in M x2 a2 = true ∧ True))
theorem gX84_fault_0 (a0 : Nat) (a1 : Int32) (a2 : Int32) (M : FM) (T : Ty M) (n_a0 : fm_is M 91 91 a0 = true) (h : HX84_fault_0 a0 a1 a2 M) : gd (FX84_fault_0 a0 a1 a2 M) (GX84_fault_0 a0 a1 a2 M) (OkR M) := by
  delta FX84_fault_0 BX84_fault_0
  refine gd_c n_a0 ?_
  have f1 := (fm_w (lo' := 910) (hi' := 990) rfl rfl (tN_286 T.1 n_a0))
  refine gd_c ⟨f1, h.1⟩ ?_
  have f0 := (tE_933 T.1 (tN_286 T.1 n_a0) h.1)
  refine gd_c ⟨f0, h.2.1⟩ ?_
  exact ⟨rfl, ⟨T.1, T.2⟩, (ext_r _)⟩
noncomputable def GX84_fault (a0 : Nat) (a1 : Int32) (a2 : Int32) (M : FM) : Int64 × FM := GX84_fault_0 a0 a1 a2 M
def HX84_fault (a0 : Nat) (a1 : Int32) (a2 : Int32) (M : FM) : Prop := HX84_fault_0 a0 a1 a2 M
theorem gX84_fault (a0 : Nat) (a1 : Int32) (a2 : Int32) (M : FM) (T : Ty M) (n_a0 : fm_is M 91 91 a0 = true) (h : HX84_fault a0 a1 a2 M) : gd (FX84_fault a0 a1 a2 M) (GX84_fault a0 a1 a2 M) (OkR M) := gX84_fault_0 a0 a1 a2 M T n_a0 h
noncomputable def GX85_writes_0 (a0 : Nat) (a1 : Int64) (M : FM) : Int64 × FM :=
  let x1 : Nat := (M.2.2 247 a0 0)
  let r2 : Int32 × FM := GX11_pageOf a1 M
  let x3 : Nat := (M.2.2 204 x1 0)
  ((r2.2.2.1 3 x3 r2.1.toNatClampNeg), r2.2)
def HX85_writes_0 (a0 : Nat) (a1 : Int64) (M : FM) : Prop := let x1 : Nat := (M.2.2 247 a0 0); let r2 : Int32 × FM := GX11_pageOf a1 M; let x3 : Nat := (M.2.2 204 x1 0); (fm_in r2.2 x3 r2.1 = true ∧ True)
theorem gX85_writes_0 (a0 : Nat) (a1 : Int64) (M : FM) (T : Ty M) (n_a0 : fm_is M 81 81 a0 = true) (h : HX85_writes_0 a0 a1 M) : gd (FX85_writes_0 a0 a1 M) (GX85_writes_0 a0 a1 M) (OkR M) := by
  delta FX85_writes_0 BX85_writes_0
  refine gd_c n_a0 ?_
  have f0 := (tN_247 T.1 n_a0)
  refine gd_c f0 ?_
  refine gd_b (gX11_pageOf _ _ ⟨T.1, T.2⟩  ) (fun K1 => ?_)
  have f2 := (ext_is K1.2 (Nat.zero_lt_succ _) (tN_204 T.1 (tN_247 T.1 n_a0)))
  refine gd_c ⟨f2, h.1⟩ ?_
  exact ⟨rfl, ⟨K1.1.1, K1.1.2⟩, K1.2⟩
noncomputable def GX85_writes (a0 : Nat) (a1 : Int64) (M : FM) : Int64 × FM := GX85_writes_0 a0 a1 M
def HX85_writes (a0 : Nat) (a1 : Int64) (M : FM) : Prop := HX85_writes_0 a0 a1 M
theorem gX85_writes (a0 : Nat) (a1 : Int64) (M : FM) (T : Ty M) (n_a0 : fm_is M 81 81 a0 = true) (h : HX85_writes a0 a1 M) : gd (FX85_writes a0 a1 M) (GX85_writes a0 a1 M) (OkR M) := gX85_writes_0 a0 a1 M T n_a0 h
def kX88_holds (k2 : Nat → Nat → Int32 → FM → Option (Int32 × FM)) : (Nat × Nat × Int32 × FM) ⊕ (Int32 × FM) → Option (Int32 × FM)
  | .inl (v0, v1, v2, M') => k2 v0 v1 v2 M'
  | .inr (r) => some r
def pX88_holds (M : FM) : (Nat × Nat × Int32 × FM) ⊕ (Int32 × FM) → Prop
  | .inl (_, _, _, M') => OkV M M'
  | .inr (r) => OkZ M r
theorem pX88_holds_t {M M1 : FM} (e : Ext M M1) : ∀ y, pX88_holds M1 y → pX88_holds M y
  | .inl (_, _, _, _), h => ⟨h.1, ext_tr e h.2⟩
  | .inr (r), h => ⟨h.1, ext_tr e h.2.1, h.2.2⟩
noncomputable def GX88_holds_0 (a0 : Nat) (a1 : Nat) (M : FM) : (Nat × Nat × Int32 × FM) ⊕ (Int32 × FM) :=
  (.inl (a0, a1, (Int32.ofInt 0), M))
theorem gX88_holds_0 (k2 : Nat → Nat → Int32 → FM → Option (Int32 × FM)) (a0 : Nat) (a1 : Nat) (M : FM) (T : Ty M) : gs (FX88_holds_0 fN k2 a0 a1 M) (GX88_holds_0 a0 a1 M) (kX88_holds k2) (pX88_holds M) := by
  delta FX88_holds_0 BX88_holds_0
  exact And.intro rfl (And.intro (And.intro T.1 T.2) ((ext_r _)))
noncomputable def GX88_holds_2 (a0 : Nat) (a1 : Nat) (a2 : Int32) (M : FM) : (Nat × Nat × Int32 × FM) ⊕ (Int32 × FM) :=
  fi ((M.1 277 a0 0) ≤ a2) (
    (.inr ((Int32.ofInt 1), M))) (
    let x1 : Nat := (M.2.2 278 a0 0)
    let r2 : Int64 × FM := GX85_writes a1 (M.2.1 3 x1 a2.toNatClampNeg) M
    let x3 : Nat := (r2.2.2.2 279 a0 0)
    fi ((lg_cmp r2.1 (r2.2.2.1 3 x3 a2.toNatClampNeg)) = 0) (
      let x4 : Int32 := a2 + (Int32.ofInt 1)
      (.inl (a0, a1, x4, r2.2))) (
      (.inr ((Int32.ofInt 0), r2.2))))
def HX88_holds_2 (a0 : Nat) (a1 : Nat) (a2 : Int32) (M : FM) : Prop := (((M.1 277 a0 0) ≤ a2 → True) ∧ (¬ ((M.1 277 a0 0) ≤ a2) → let x1 : Nat := (M.2.2 278 a0 0); (fm_in M x1 a2 = true ∧ (HX85_writes a1 (M.2.1 3 x1 a2.toNatClampNeg) M ∧ let r2 : Int64 × FM := GX85_writes a1 (M.2.1 3 x1 a2.toNatClampNeg) M; let x3 : Nat := (r2.2.2.2 279 a0 0); (fm_in r2.2 x3 a2 = true ∧ True)))))
theorem gX88_holds_2 (k2 : Nat → Nat → Int32 → FM → Option (Int32 × FM)) (a0 : Nat) (a1 : Nat) (a2 : Int32) (M : FM) (T : Ty M) (n_a0 : fm_is M 88 88 a0 = true) (n_a1 : fm_is M 81 81 a1 = true) (h : HX88_holds_2 a0 a1 a2 M) : gs (FX88_holds_2 fN k2 a0 a1 a2 M) (GX88_holds_2 a0 a1 a2 M) (kX88_holds k2) (pX88_holds M) := by
  delta FX88_holds_2 BX88_holds_2
  refine gs_c n_a0 ?_
  refine gs_fi (fun c0_0 => ?_) (fun c0_0 => ?_)
  · exact gs_z fz_1 ⟨T.1, T.2⟩ (ext_r _) rfl (fun h => h)
  · refine gs_c n_a0 ?_
    have f5 := (tN_278 T.1 n_a0)
    refine gs_c ⟨f5, (h.2 c0_0).1⟩ ?_
    refine gs_kb (gk_fi (gk_b _ _) gk_0) (gd_c n_a1 (gX85_writes _ _ _ ⟨T.1, T.2⟩ n_a1 (h.2 c0_0).2.1)) (fun K1 => ?_)
    have f2 := (ext_is K1.2 (Nat.zero_lt_succ _) n_a0)
    refine gs_c f2 ?_
    have f4 := (tN_279 K1.1.1 (ext_is K1.2 (Nat.zero_lt_succ _) n_a0))
    refine gs_c ⟨f4, (h.2 c0_0).2.2.1⟩ ?_
    refine gs_fi (fun c3_0 => ?_) (fun c3_0 => ?_)
    · exact And.intro rfl (And.intro (And.intro K1.1.1 K1.1.2) K1.2)
    · exact gs_z fz_0 ⟨K1.1.1, K1.1.2⟩ K1.2 rfl (fun h => h)
noncomputable def GX88_holds (a0 : Nat) (a1 : Nat) (M : FM) : Int32 × FM := (FX88_holds fN a0 a1 M).getD (0, M)
def HX88_holds (a0 : Nat) (a1 : Nat) (M : FM) : Prop := ∃ r, FX88_holds fN a0 a1 M = some r ∧ OkZ M r
theorem gX88_holds (a0 : Nat) (a1 : Nat) (M : FM) (h : HX88_holds a0 a1 M) : gd (FX88_holds fN a0 a1 M) (GX88_holds a0 a1 M) (OkZ M) := gd_op h
noncomputable def GX11_has_36 (s0 : Int32) (M : FM) : Int32 × FM :=
  (s0, M)
theorem gX11_has_36 (s0 : Int32) (M : FM) (T : Ty M) (z_s0 : s0 = 0 ∨ s0 = 1) : gd (FX11_has_36 s0 M) (GX11_has_36 s0 M) (OkZ M) := by
  delta FX11_has_36 BX11_has_36
  exact gd_z z_s0 ⟨T.1, T.2⟩ (ext_r _) rfl
noncomputable def GX11_has_35 (M : FM) : Int32 × FM :=
  GX11_has_36 (Int32.ofInt 0) M
theorem gX11_has_35 (M : FM) (T : Ty M) : gd (FX11_has_35 M) (GX11_has_35 M) (OkZ M) := by
  delta FX11_has_35 BX11_has_35
  exact gd_tZ (ext_r _) (gX11_has_36 _ _ ⟨T.1, T.2⟩ fz_0 )
noncomputable def GX11_has_0 (a0 : Nat) (a1 : Int64) (a3 : Int64) (M : FM) : Int32 × FM :=
  let x1 : Int64 := (a1 - (Int64.ofInt 2147483648))
  fi ((lg_cmp x1 (Int64.ofInt 0)) < 0) (
    GX11_has_35 M) (
    fi (0 < (lg_cmp x1 (((M.1 202 a0 0).toInt64 * (Int64.ofInt 4096)) - a3))) (
      GX11_has_35 M) (
      GX11_has_36 (Int32.ofInt 1) M))
theorem gX11_has_0 (a0 : Nat) (a1 : Int64) (a3 : Int64) (M : FM) (T : Ty M) (n_a0 : fm_is M 73 73 a0 = true) : gd (FX11_has_0 a0 a1 a3 M) (GX11_has_0 a0 a1 a3 M) (OkZ M) := by
  delta FX11_has_0 BX11_has_0
  refine gd_fi (fun c0_0 => ?_) (fun c0_0 => ?_)
  · exact gd_tZ (ext_r _) (gX11_has_35  _ ⟨T.1, T.2⟩  )
  · refine gd_c n_a0 ?_
    refine gd_fi (fun c1_0 => ?_) (fun c1_0 => ?_)
    · exact gd_tZ (ext_r _) (gX11_has_35  _ ⟨T.1, T.2⟩  )
    · exact gd_tZ (ext_r _) (gX11_has_36 _ _ ⟨T.1, T.2⟩ fz_1 )
noncomputable def GX11_has (a0 : Nat) (a1 : Int64) (a3 : Int64) (M : FM) : Int32 × FM := GX11_has_0 a0 a1 a3 M
theorem gX11_has (a0 : Nat) (a1 : Int64) (a3 : Int64) (M : FM) (T : Ty M) (n_a0 : fm_is M 73 73 a0 = true) : gd (FX11_has a0 a1 a3 M) (GX11_has a0 a1 a3 M) (OkZ M) := gX11_has_0 a0 a1 a3 M T n_a0 
noncomputable def GX85_has_29 (s0 : Int32) (M : FM) : Int32 × FM :=
  (s0, M)
theorem gX85_has_29 (s0 : Int32) (M : FM) (T : Ty M) (z_s0 : s0 = 0 ∨ s0 = 1) : gd (FX85_has_29 s0 M) (GX85_has_29 s0 M) (OkZ M) := by
  delta FX85_has_29 BX85_has_29
  exact gd_z z_s0 ⟨T.1, T.2⟩ (ext_r _) rfl
noncomputable def GX85_has_28 (M : FM) : Int32 × FM :=
  GX85_has_29 (Int32.ofInt 0) M
theorem gX85_has_28 (M : FM) (T : Ty M) : gd (FX85_has_28 M) (GX85_has_28 M) (OkZ M) := by
  delta FX85_has_28 BX85_has_28
  exact gd_tZ (ext_r _) (gX85_has_29 _ _ ⟨T.1, T.2⟩ fz_0 )
noncomputable def GX85_has_0 (a0 : Nat) (a1 : Int64) (M : FM) : Int32 × FM :=
  fi ((lg_cmp (a1 &&& (Int64.ofInt 7)) (Int64.ofInt 0)) = 0) (
    let x1 : Nat := (M.2.2 247 a0 0)
    let r2 : Int32 × FM := GX11_has x1 a1 (Int64.ofInt 8) M
    fi (r2.1 = 0) (
      GX85_has_28 r2.2) (
      GX85_has_29 (Int32.ofInt 1) r2.2)) (
    GX85_has_28 M)
theorem gX85_has_0 (a0 : Nat) (a1 : Int64) (M : FM) (T : Ty M) (n_a0 : fm_is M 81 81 a0 = true) : gd (FX85_has_0 a0 a1 M) (GX85_has_0 a0 a1 M) (OkZ M) := by
  delta FX85_has_0 BX85_has_0
  refine gd_fi (fun c0_0 => ?_) (fun c0_0 => ?_)
  · refine gd_c n_a0 ?_
    have f1 := (tN_247 T.1 n_a0)
    refine gd_c f1 ?_
    have f4 := (tN_247 T.1 n_a0)
    refine gd_b (gX11_has _ _ _ _ ⟨T.1, T.2⟩ f4 ) (fun K2 => ?_)
    refine gd_fi (fun c3_0 => ?_) (fun c3_0 => ?_)
    · exact gd_tZ K2.2.1 (gX85_has_28  _ ⟨K2.1.1, K2.1.2⟩  )
    · exact gd_tZ K2.2.1 (gX85_has_29 _ _ ⟨K2.1.1, K2.1.2⟩ fz_1 )
  · exact gd_tZ (ext_r _) (gX85_has_28  _ ⟨T.1, T.2⟩  )
noncomputable def GX85_has (a0 : Nat) (a1 : Int64) (M : FM) : Int32 × FM := GX85_has_0 a0 a1 M
theorem gX85_has (a0 : Nat) (a1 : Int64) (M : FM) (T : Ty M) (n_a0 : fm_is M 81 81 a0 = true) : gd (FX85_has a0 a1 M) (GX85_has a0 a1 M) (OkZ M) := gX85_has_0 a0 a1 M T n_a0 
noncomputable def GX87_touches_38 (s0 : Int32) (M : FM) : Int32 × FM :=
  (s0, M)
theorem gX87_touches_38 (s0 : Int32) (M : FM) (T : Ty M) (z_s0 : s0 = 0 ∨ s0 = 1) : gd (FX87_touches_38 s0 M) (GX87_touches_38 s0 M) (OkZ M) := by
  delta FX87_touches_38 BX87_touches_38
  exact gd_z z_s0 ⟨T.1, T.2⟩ (ext_r _) rfl
noncomputable def GX87_touches_37 (M : FM) : Int32 × FM :=
  GX87_touches_38 (Int32.ofInt 0) M
theorem gX87_touches_37 (M : FM) (T : Ty M) : gd (FX87_touches_37 M) (GX87_touches_37 M) (OkZ M) := by
  delta FX87_touches_37 BX87_touches_37
  exact gd_tZ (ext_r _) (gX87_touches_38 _ _ ⟨T.1, T.2⟩ fz_0 )
noncomputable def GX87_touches_0 (a0 : Nat) (a1 : Int64) (a3 : Int32) (M : FM) : Int32 × FM :=
  fi (0 ≤ (lg_cmp (M.2.1 282 a0 0) (M.2.1 283 a0 0))) (
    GX87_touches_37 M) (
    fi (0 ≤ (lg_cmp a1 (M.2.1 283 a0 0))) (
      GX87_touches_37 M) (
      fi ((lg_cmp (a1 + a3.toInt64) (M.2.1 282 a0 0)) ≤ 0) (
        GX87_touches_37 M) (
        GX87_touches_38 (Int32.ofInt 1) M)))
theorem gX87_touches_0 (a0 : Nat) (a1 : Int64) (a3 : Int32) (M : FM) (T : Ty M) (n_a0 : fm_is M 89 89 a0 = true) : gd (FX87_touches_0 a0 a1 a3 M) (GX87_touches_0 a0 a1 a3 M) (OkZ M) := by
  delta FX87_touches_0 BX87_touches_0
  refine gd_c n_a0 ?_
  refine gd_c n_a0 ?_
  refine gd_fi (fun c0_0 => ?_) (fun c0_0 => ?_)
  · exact gd_tZ (ext_r _) (gX87_touches_37  _ ⟨T.1, T.2⟩  )
  · refine gd_c n_a0 ?_
    refine gd_fi (fun c1_0 => ?_) (fun c1_0 => ?_)
    · exact gd_tZ (ext_r _) (gX87_touches_37  _ ⟨T.1, T.2⟩  )
    · refine gd_c n_a0 ?_
      refine gd_fi (fun c2_0 => ?_) (fun c2_0 => ?_)
      · exact gd_tZ (ext_r _) (gX87_touches_37  _ ⟨T.1, T.2⟩  )
      · exact gd_tZ (ext_r _) (gX87_touches_38 _ _ ⟨T.1, T.2⟩ fz_1 )
noncomputable def GX87_touches (a0 : Nat) (a1 : Int64) (a3 : Int32) (M : FM) : Int32 × FM := GX87_touches_0 a0 a1 a3 M
theorem gX87_touches (a0 : Nat) (a1 : Int64) (a3 : Int32) (M : FM) (T : Ty M) (n_a0 : fm_is M 89 89 a0 = true) : gd (FX87_touches a0 a1 a3 M) (GX87_touches a0 a1 a3 M) (OkZ M) := gX87_touches_0 a0 a1 a3 M T n_a0 
noncomputable def GX87_isLocked_16 (s0 : Int32) (M : FM) : Int32 × FM :=
  (s0, M)
theorem gX87_isLocked_16 (s0 : Int32) (M : FM) (T : Ty M) (z_s0 : s0 = 0 ∨ s0 = 1) : gd (FX87_isLocked_16 s0 M) (GX87_isLocked_16 s0 M) (OkZ M) := by
  delta FX87_isLocked_16 BX87_isLocked_16
  exact gd_z z_s0 ⟨T.1, T.2⟩ (ext_r _) rfl
noncomputable def GX87_isLocked_0 (a0 : Nat) (M : FM) : Int32 × FM :=
  fi (((M.1 280 a0 0) &&& (Int32.ofInt 128)) = 0) (
    GX87_isLocked_16 (Int32.ofInt 0) M) (
    GX87_isLocked_16 (Int32.ofInt 1) M)
theorem gX87_isLocked_0 (a0 : Nat) (M : FM) (T : Ty M) (n_a0 : fm_is M 89 89 a0 = true) : gd (FX87_isLocked_0 a0 M) (GX87_isLocked_0 a0 M) (OkZ M) := by
  delta FX87_isLocked_0 BX87_isLocked_0
  refine gd_c n_a0 ?_
  refine gd_fi (fun c0_0 => ?_) (fun c0_0 => ?_)
  · exact gd_tZ (ext_r _) (gX87_isLocked_16 _ _ ⟨T.1, T.2⟩ fz_0 )
  · exact gd_tZ (ext_r _) (gX87_isLocked_16 _ _ ⟨T.1, T.2⟩ fz_1 )
noncomputable def GX87_isLocked (a0 : Nat) (M : FM) : Int32 × FM := GX87_isLocked_0 a0 M
theorem gX87_isLocked (a0 : Nat) (M : FM) (T : Ty M) (n_a0 : fm_is M 89 89 a0 = true) : gd (FX87_isLocked a0 M) (GX87_isLocked a0 M) (OkZ M) := gX87_isLocked_0 a0 M T n_a0 
noncomputable def GX87_lets_83 (s0 : Int32) (M : FM) : Int32 × FM :=
  (s0, M)
theorem gX87_lets_83 (s0 : Int32) (M : FM) (T : Ty M) (z_s0 : s0 = 0 ∨ s0 = 1) : gd (FX87_lets_83 s0 M) (GX87_lets_83 s0 M) (OkZ M) := by
  delta FX87_lets_83 BX87_lets_83
  exact gd_z z_s0 ⟨T.1, T.2⟩ (ext_r _) rfl
noncomputable def GX87_lets_82 (M : FM) : Int32 × FM :=
  GX87_lets_83 (Int32.ofInt 0) M
theorem gX87_lets_82 (M : FM) (T : Ty M) : gd (FX87_lets_82 M) (GX87_lets_82 M) (OkZ M) := by
  delta FX87_lets_82 BX87_lets_82
  exact gd_tZ (ext_r _) (gX87_lets_83 _ _ ⟨T.1, T.2⟩ fz_0 )
noncomputable def GX87_lets_78 (M : FM) : Int32 × FM :=
  GX87_lets_83 (Int32.ofInt 1) M
theorem gX87_lets_78 (M : FM) (T : Ty M) : gd (FX87_lets_78 M) (GX87_lets_78 M) (OkZ M) := by
  delta FX87_lets_78 BX87_lets_78
  exact gd_tZ (ext_r _) (gX87_lets_83 _ _ ⟨T.1, T.2⟩ fz_1 )
noncomputable def GX87_lets_68 (a0 : Nat) (a7 : Int32) (M : FM) : Int32 × FM :=
  fi (((M.1 280 a0 0) &&& a7) = 0) (
    GX87_lets_82 M) (
    GX87_lets_78 M)
theorem gX87_lets_68 (a0 : Nat) (a7 : Int32) (M : FM) (T : Ty M) (n_a0 : fm_is M 89 89 a0 = true) : gd (FX87_lets_68 a0 a7 M) (GX87_lets_68 a0 a7 M) (OkZ M) := by
  delta FX87_lets_68 BX87_lets_68
  refine gd_c n_a0 ?_
  refine gd_fi (fun c0_0 => ?_) (fun c0_0 => ?_)
  · exact gd_tZ (ext_r _) (gX87_lets_82  _ ⟨T.1, T.2⟩  )
  · exact gd_tZ (ext_r _) (gX87_lets_78  _ ⟨T.1, T.2⟩  )
noncomputable def GX87_lets_48 (a0 : Nat) (a5 : Int32) (a6 : Int32) (s0 : Int32) (M : FM) : Int32 × FM :=
  fi (a6 = 0) (
    GX87_lets_82 M) (
    fi (a5 = (Int32.ofInt 3)) (
      let r1 : Int32 × FM := GX87_isLocked a0 M
      fi (r1.1 = 0) (
        GX87_lets_78 r1.2) (
        GX87_lets_68 a0 s0 r1.2)) (
      GX87_lets_68 a0 s0 M))
theorem gX87_lets_48 (a0 : Nat) (a5 : Int32) (a6 : Int32) (s0 : Int32) (M : FM) (T : Ty M) (n_a0 : fm_is M 89 89 a0 = true) : gd (FX87_lets_48 a0 a5 a6 s0 M) (GX87_lets_48 a0 a5 a6 s0 M) (OkZ M) := by
  delta FX87_lets_48 BX87_lets_48
  refine gd_fi (fun c0_0 => ?_) (fun c0_0 => ?_)
  · exact gd_tZ (ext_r _) (gX87_lets_82  _ ⟨T.1, T.2⟩  )
  · refine gd_fi (fun c1_0 => ?_) (fun c1_0 => ?_)
    · refine gd_c n_a0 ?_
      refine gd_b (gX87_isLocked _ _ ⟨T.1, T.2⟩ n_a0 ) (fun K2 => ?_)
      refine gd_fi (fun c3_0 => ?_) (fun c3_0 => ?_)
      · exact gd_tZ K2.2.1 (gX87_lets_78  _ ⟨K2.1.1, K2.1.2⟩  )
      · have f4 := (ext_is K2.2.1 (Nat.zero_lt_succ _) n_a0)
        exact gd_tZ K2.2.1 (gX87_lets_68 _ _ _ ⟨K2.1.1, K2.1.2⟩ f4 )
    · exact gd_tZ (ext_r _) (gX87_lets_68 _ _ _ ⟨T.1, T.2⟩ n_a0 )
noncomputable def GX87_lets_26 (a0 : Nat) (a4 : Int32) (a5 : Int32) (s0 : Int32) (M : FM) : Int32 × FM :=
  fi (a4 = 0) (
    GX87_lets_48 a0 a5 s0 (Int32.ofInt 4) M) (
    fi (a4 = (Int32.ofInt 1)) (
      GX87_lets_48 a0 a5 s0 (Int32.ofInt 1) M) (
      GX87_lets_48 a0 a5 s0 (Int32.ofInt 2) M))
theorem gX87_lets_26 (a0 : Nat) (a4 : Int32) (a5 : Int32) (s0 : Int32) (M : FM) (T : Ty M) (n_a0 : fm_is M 89 89 a0 = true) : gd (FX87_lets_26 a0 a4 a5 s0 M) (GX87_lets_26 a0 a4 a5 s0 M) (OkZ M) := by
  delta FX87_lets_26 BX87_lets_26
  refine gd_fi (fun c0_0 => ?_) (fun c0_0 => ?_)
  · exact gd_tZ (ext_r _) (gX87_lets_48 _ _ _ _ _ ⟨T.1, T.2⟩ n_a0 )
  · refine gd_fi (fun c1_0 => ?_) (fun c1_0 => ?_)
    · exact gd_tZ (ext_r _) (gX87_lets_48 _ _ _ _ _ ⟨T.1, T.2⟩ n_a0 )
    · exact gd_tZ (ext_r _) (gX87_lets_48 _ _ _ _ _ ⟨T.1, T.2⟩ n_a0 )
noncomputable def GX87_lets_25 (a0 : Nat) (a4 : Int32) (a5 : Int32) (M : FM) : Int32 × FM :=
  GX87_lets_26 a0 a4 a5 (Int32.ofInt 0) M
theorem gX87_lets_25 (a0 : Nat) (a4 : Int32) (a5 : Int32) (M : FM) (T : Ty M) (n_a0 : fm_is M 89 89 a0 = true) : gd (FX87_lets_25 a0 a4 a5 M) (GX87_lets_25 a0 a4 a5 M) (OkZ M) := by
  delta FX87_lets_25 BX87_lets_25
  exact gd_tZ (ext_r _) (gX87_lets_26 _ _ _ _ _ ⟨T.1, T.2⟩ n_a0 )
noncomputable def GX87_lets_0 (a0 : Nat) (a1 : Int64) (a3 : Int32) (a4 : Int32) (a5 : Int32) (M : FM) : Int32 × FM :=
  fi ((lg_cmp a1 (M.2.1 282 a0 0)) < 0) (
    GX87_lets_25 a0 a4 a5 M) (
    fi (0 < (lg_cmp (a1 + a3.toInt64) (M.2.1 283 a0 0))) (
      GX87_lets_25 a0 a4 a5 M) (
      GX87_lets_26 a0 a4 a5 (Int32.ofInt 1) M))
theorem gX87_lets_0 (a0 : Nat) (a1 : Int64) (a3 : Int32) (a4 : Int32) (a5 : Int32) (M : FM) (T : Ty M) (n_a0 : fm_is M 89 89 a0 = true) : gd (FX87_lets_0 a0 a1 a3 a4 a5 M) (GX87_lets_0 a0 a1 a3 a4 a5 M) (OkZ M) := by
  delta FX87_lets_0 BX87_lets_0
  refine gd_c n_a0 ?_
  refine gd_fi (fun c0_0 => ?_) (fun c0_0 => ?_)
  · exact gd_tZ (ext_r _) (gX87_lets_25 _ _ _ _ ⟨T.1, T.2⟩ n_a0 )
  · refine gd_c n_a0 ?_
    refine gd_fi (fun c1_0 => ?_) (fun c1_0 => ?_)
    · exact gd_tZ (ext_r _) (gX87_lets_25 _ _ _ _ ⟨T.1, T.2⟩ n_a0 )
    · exact gd_tZ (ext_r _) (gX87_lets_26 _ _ _ _ _ ⟨T.1, T.2⟩ n_a0 )
noncomputable def GX87_lets (a0 : Nat) (a1 : Int64) (a3 : Int32) (a4 : Int32) (a5 : Int32) (M : FM) : Int32 × FM := GX87_lets_0 a0 a1 a3 a4 a5 M
theorem gX87_lets (a0 : Nat) (a1 : Int64) (a3 : Int32) (a4 : Int32) (a5 : Int32) (M : FM) (T : Ty M) (n_a0 : fm_is M 89 89 a0 = true) : gd (FX87_lets a0 a1 a3 a4 a5 M) (GX87_lets a0 a1 a3 a4 a5 M) (OkZ M) := gX87_lets_0 a0 a1 a3 a4 a5 M T n_a0 
def kX86_let (k14 : Int64 → Int32 → Int32 → Int32 → Nat → Int32 → Int32 → FM → Option (Int32 × FM)) : (Int64 × Int32 × Int32 × Int32 × Nat × Int32 × Int32 × FM) ⊕ (Int32 × FM) → Option (Int32 × FM)
  | .inl (v0, v1, v2, v3, v4, v5, v6, M') => k14 v0 v1 v2 v3 v4 v5 v6 M'
  | .inr (r) => some r
def pX86_let (M : FM) : (Int64 × Int32 × Int32 × Int32 × Nat × Int32 × Int32 × FM) ⊕ (Int32 × FM) → Prop
  | .inl (_, _, _, _, _, _, _, M') => OkV M M'
  | .inr (r) => OkZ M r
theorem pX86_let_t {M M1 : FM} (e : Ext M M1) : ∀ y, pX86_let M1 y → pX86_let M y
  | .inl (_, _, _, _, _, _, _, _), h => ⟨h.1, ext_tr e h.2⟩
  | .inr (r), h => ⟨h.1, ext_tr e h.2.1, h.2.2⟩
noncomputable def GX86_let_67 (s0 : Int32) (M : FM) : (Int64 × Int32 × Int32 × Int32 × Nat × Int32 × Int32 × FM) ⊕ (Int32 × FM) :=
  (.inr (s0, M))
theorem gX86_let_67 (k14 : Int64 → Int32 → Int32 → Int32 → Nat → Int32 → Int32 → FM → Option (Int32 × FM)) (s0 : Int32) (M : FM) (T : Ty M) (z_s0 : s0 = 0 ∨ s0 = 1) : gs (FX86_let_67 fN k14 s0 M) (GX86_let_67 s0 M) (kX86_let k14) (pX86_let M) := by
  delta FX86_let_67 BX86_let_67
  exact gs_z z_s0 ⟨T.1, T.2⟩ (ext_r _) rfl (fun h => h)
noncomputable def GX86_let_0 (a0 : Nat) (a1 : Int64) (a3 : Int32) (a4 : Int32) (a5 : Int32) (M : FM) : (Int64 × Int32 × Int32 × Int32 × Nat × Int32 × Int32 × FM) ⊕ (Int32 × FM) :=
  let x1 : Nat := (M.2.2 284 a0 0)
  let x2 : Int32 := (Int32.ofNat (M.2.2 1 x1 0))
  (.inl (a1, a3, a4, a5, x1, x2, (Int32.ofInt 0), M))
theorem gX86_let_0 (k14 : Int64 → Int32 → Int32 → Int32 → Nat → Int32 → Int32 → FM → Option (Int32 × FM)) (a0 : Nat) (a1 : Int64) (a3 : Int32) (a4 : Int32) (a5 : Int32) (M : FM) (T : Ty M) (n_a0 : fm_is M 90 90 a0 = true) : gs (FX86_let_0 fN k14 a0 a1 a3 a4 a5 M) (GX86_let_0 a0 a1 a3 a4 a5 M) (kX86_let k14) (pX86_let M) := by
  delta FX86_let_0 BX86_let_0
  refine gs_c n_a0 ?_
  have f0 := (fm_w (lo' := 901) (hi' := 990) rfl rfl (tN_284 T.1 n_a0))
  refine gs_c f0 ?_
  exact And.intro rfl (And.intro (And.intro T.1 T.2) ((ext_r _)))
noncomputable def GX86_let_14 (a1 : Int64) (a3 : Int32) (a4 : Int32) (a5 : Int32) (a6 : Nat) (a7 : Int32) (a8 : Int32) (M : FM) : (Int64 × Int32 × Int32 × Int32 × Nat × Int32 × Int32 × FM) ⊕ (Int32 × FM) :=
  fi (a7 ≤ a8) (
    fi (a5 = (Int32.ofInt 3)) (
      GX86_let_67 (Int32.ofInt 1) M) (
      GX86_let_67 (Int32.ofInt 0) M)) (
    let x1 : Nat := (M.2.2 3 a6 a8.toNatClampNeg)
    let r2 : Int32 × FM := GX87_touches x1 a1 a3 M
    fi (r2.1 = 0) (
      let x3 : Int32 := a8 + (Int32.ofInt 1)
      (.inl (a1, a3, a4, a5, a6, a7, x3, r2.2))) (
      let r4 : Int32 × FM := GX87_lets x1 a1 a3 a4 a5 r2.2
      (.inr (r4.1, r4.2))))
def HX86_let_14 (a1 : Int64) (a3 : Int32) (a4 : Int32) (a5 : Int32) (a6 : Nat) (a7 : Int32) (a8 : Int32) (M : FM) : Prop := ((a7 ≤ a8 → True) ∧ (¬ (a7 ≤ a8) → (fm_in M a6 a8 = true ∧ True)))
theorem gX86_let_14 (k14 : Int64 → Int32 → Int32 → Int32 → Nat → Int32 → Int32 → FM → Option (Int32 × FM)) (a1 : Int64) (a3 : Int32) (a4 : Int32) (a5 : Int32) (a6 : Nat) (a7 : Int32) (a8 : Int32) (M : FM) (T : Ty M) (n_a6 : fm_is M 927 927 a6 = true) (h : HX86_let_14 a1 a3 a4 a5 a6 a7 a8 M) : gs (FX86_let_14 fN k14 a1 a3 a4 a5 a6 a7 a8 M) (GX86_let_14 a1 a3 a4 a5 a6 a7 a8 M) (kX86_let k14) (pX86_let M) := by
  delta FX86_let_14 BX86_let_14
  refine gs_fi (fun c0_0 => ?_) (fun c0_0 => ?_)
  · refine gs_fi (fun c1_0 => ?_) (fun c1_0 => ?_)
    · exact gs_t (pX86_let_t (ext_r _)) (gX86_let_67 k14 _ _ ⟨T.1, T.2⟩ fz_1 )
    · exact gs_t (pX86_let_t (ext_r _)) (gX86_let_67 k14 _ _ ⟨T.1, T.2⟩ fz_0 )
  · have f9 := (fm_w (lo' := 910) (hi' := 990) rfl rfl n_a6)
    refine gs_c ⟨f9, (h.2 c0_0).1⟩ ?_
    have f2 := (tE_927 T.1 n_a6 (h.2 c0_0).1)
    refine gs_c f2 ?_
    have f8 := (tE_927 T.1 n_a6 (h.2 c0_0).1)
    refine gs_b (gX87_touches _ _ _ _ ⟨T.1, T.2⟩ f8 ) (fun K3 => ?_)
    refine gs_fi (fun c4_0 => ?_) (fun c4_0 => ?_)
    · exact And.intro rfl (And.intro (And.intro K3.1.1 K3.1.2) K3.2.1)
    · have f5 := (ext_is K3.2.1 (Nat.zero_lt_succ _) (tE_927 T.1 n_a6 (h.2 c0_0).1))
      refine gs_c f5 ?_
      have f7 := (ext_is K3.2.1 (Nat.zero_lt_succ _) (tE_927 T.1 n_a6 (h.2 c0_0).1))
      refine gs_b (gX87_lets _ _ _ _ _ _ ⟨K3.1.1, K3.1.2⟩ f7 ) (fun K6 => ?_)
      exact gs_z K6.2.2 ⟨K6.1.1, K6.1.2⟩ (ext_tr K3.2.1 K6.2.1) rfl (fun h => h)
noncomputable def GX86_let (a0 : Nat) (a1 : Int64) (a2 : Int32) (a3 : Int32) (a4 : Int32) (M : FM) : Int32 × FM := (FX86_let fN a0 a1 a2 a3 a4 M).getD (0, M)
def HX86_let (a0 : Nat) (a1 : Int64) (a2 : Int32) (a3 : Int32) (a4 : Int32) (M : FM) : Prop := ∃ r, FX86_let fN a0 a1 a2 a3 a4 M = some r ∧ OkZ M r
theorem gX86_let (a0 : Nat) (a1 : Int64) (a2 : Int32) (a3 : Int32) (a4 : Int32) (M : FM) (h : HX86_let a0 a1 a2 a3 a4 M) : gd (FX86_let fN a0 a1 a2 a3 a4 M) (GX86_let a0 a1 a2 a3 a4 M) (OkZ M) := gd_op h
noncomputable def GX91_get_55 (a2 : Int32) (a5 : Int64) (M : FM) : Int64 × FM :=
  let r1 : Int64 × FM := GX91_mask a2 M
  ((a5 &&& r1.1), r1.2)
theorem gX91_get_55 (a2 : Int32) (a5 : Int64) (M : FM) (T : Ty M) : gd (FX91_get_55 a2 a5 M) (GX91_get_55 a2 a5 M) (OkR M) := by
  delta FX91_get_55 BX91_get_55
  refine gd_b (gX91_mask _ _ ⟨T.1, T.2⟩  ) (fun K0 => ?_)
  exact ⟨rfl, ⟨K0.1.1, K0.1.2⟩, K0.2⟩
noncomputable def GX91_get_0 (a0 : Nat) (a1 : Int32) (a2 : Int32) (M : FM) : Int64 × FM :=
  let x1 : Int32 := (a1 >>> ((Int32.ofInt 3) &&& 31))
  let x2 : Int32 := ((Int32.ofInt 8) * (a1 &&& (Int32.ofInt 7)))
  let x3 : Nat := (M.2.2 201 a0 0)
  let x4 : Int64 := ((M.2.1 3 x3 x1.toNatClampNeg).toUInt64 >>> (x2.toInt64.toUInt64 &&& Int64.toUInt64 63)).toInt64
  fi ((x2 + ((Int32.ofInt 8) * a2)) ≤ (Int32.ofInt 64)) (
    GX91_get_55 a2 x4 M) (
    let x5 : Int32 := (x1 + (Int32.ofInt 1))
    let x6 : Nat := (M.2.2 201 a0 0)
    let x7 : Int64 := (x4 ||| ((M.2.1 3 x6 x5.toNatClampNeg) <<< (((Int32.ofInt 64) - x2).toInt64 &&& 63)))
    GX91_get_55 a2 x7 M)
def HX91_get_0 (a0 : Nat) (a1 : Int32) (a2 : Int32) (M : FM) : Prop := let x1 : Int32 := (a1 >>> ((Int32.ofInt 3) &&& 31)); let x2 : Int32 := ((Int32.ofInt 8) * (a1 &&& (Int32.ofInt 7))); let x3 : Nat := (M.2.2 201 a0 0); (fm_in M x3 x1 = true ∧ let x4 : Int64 := ((M.2.1 3 x3 x1.toNatClampNeg).toUInt64 >>> (x2.toInt64.toUInt64 &&& Int64.toUInt64 63)).toInt64; (((x2 + ((Int32.ofInt 8) * a2)) ≤ (Int32.ofInt 64) → True) ∧ (¬ ((x2 + ((Int32.ofInt 8) * a2)) ≤ (Int32.ofInt 64)) → let x5 : Int32 := (x1 + (Int32.ofInt 1)); let x6 : Nat := (M.2.2 201 a0 0); (fm_in M x6 x5 = true ∧ True))))
theorem gX91_get_0 (a0 : Nat) (a1 : Int32) (a2 : Int32) (M : FM) (T : Ty M) (n_a0 : fm_is M 72 72 a0 = true) (h : HX91_get_0 a0 a1 a2 M) : gd (FX91_get_0 a0 a1 a2 M) (GX91_get_0 a0 a1 a2 M) (OkR M) := by
  delta FX91_get_0 BX91_get_0
  refine gd_c n_a0 ?_
  have f2 := (tN_201 T.1 n_a0)
  refine gd_c ⟨f2, h.1⟩ ?_
  refine gd_fi (fun c0_0 => ?_) (fun c0_0 => ?_)
  · exact gd_tR (ext_r _) (gX91_get_55 _ _ _ ⟨T.1, T.2⟩  )
  · refine gd_c n_a0 ?_
    have f1 := (tN_201 T.1 n_a0)
    refine gd_c ⟨f1, (h.2.2 c0_0).1⟩ ?_
    exact gd_tR (ext_r _) (gX91_get_55 _ _ _ ⟨T.1, T.2⟩  )
noncomputable def GX91_get (a0 : Nat) (a1 : Int32) (a2 : Int32) (M : FM) : Int64 × FM := GX91_get_0 a0 a1 a2 M
def HX91_get (a0 : Nat) (a1 : Int32) (a2 : Int32) (M : FM) : Prop := HX91_get_0 a0 a1 a2 M
theorem gX91_get (a0 : Nat) (a1 : Int32) (a2 : Int32) (M : FM) (T : Ty M) (n_a0 : fm_is M 72 72 a0 = true) (h : HX91_get a0 a1 a2 M) : gd (FX91_get a0 a1 a2 M) (GX91_get a0 a1 a2 M) (OkR M) := gX91_get_0 a0 a1 a2 M T n_a0 h
noncomputable def GX11_load_100 (s0 : Int64) (M : FM) : Int64 × FM :=
  (s0, M)
theorem gX11_load_100 (s0 : Int64) (M : FM) (T : Ty M) : gd (FX11_load_100 s0 M) (GX11_load_100 s0 M) (OkR M) := by
  delta FX11_load_100 BX11_load_100
  exact ⟨rfl, ⟨T.1, T.2⟩, (ext_r _)⟩
noncomputable def GX11_load_47 (a0 : Nat) (a1 : Int64) (a3 : Int32) (a5 : Int32) (s0 : Int64) (M : FM) : Int64 × FM :=
  fi (a5 = a3) (
    (s0, M)) (
    let r1 : Int32 × FM := GX11_pageOf a1 M
    let x2 : Int32 := (r1.1 + (Int32.ofInt 1))
    let x3 : Nat := (M.2.2 203 a0 0)
    let x4 : Nat := (r1.2.2.2 3 x3 x2.toNatClampNeg)
    fi (x4 = 0) (
      GX11_load_100 s0 r1.2) (
      let r5 : Int64 × FM := GX91_get x4 (Int32.ofInt 0) (a3 - a5) r1.2
      GX11_load_100 ((r5.1 <<< (((Int32.ofInt 8) * a5).toInt64 &&& 63)) ||| s0) r5.2))
def HX11_load_47 (a0 : Nat) (a1 : Int64) (a3 : Int32) (a5 : Int32) (s0 : Int64) (M : FM) : Prop := ((a5 = a3 → True) ∧ (¬ (a5 = a3) → let r1 : Int32 × FM := GX11_pageOf a1 M; let x2 : Int32 := (r1.1 + (Int32.ofInt 1)); let x3 : Nat := (M.2.2 203 a0 0); (fm_in r1.2 x3 x2 = true ∧ let x4 : Nat := (r1.2.2.2 3 x3 x2.toNatClampNeg); ((x4 = 0 → True) ∧ (¬ (x4 = 0) → (HX91_get x4 (Int32.ofInt 0) (a3 - a5) r1.2 ∧ True))))))
theorem gX11_load_47 (a0 : Nat) (a1 : Int64) (a3 : Int32) (a5 : Int32) (s0 : Int64) (M : FM) (T : Ty M) (n_a0 : fm_is M 73 73 a0 = true) (h : HX11_load_47 a0 a1 a3 a5 s0 M) : gd (FX11_load_47 a0 a1 a3 a5 s0 M) (GX11_load_47 a0 a1 a3 a5 s0 M) (OkR M) := by
  delta FX11_load_47 BX11_load_47
  refine gd_fi (fun c0_0 => ?_) (fun c0_0 => ?_)
  · exact ⟨rfl, ⟨T.1, T.2⟩, (ext_r _)⟩
  · refine gd_c n_a0 ?_
    refine gd_b (gX11_pageOf _ _ ⟨T.1, T.2⟩  ) (fun K1 => ?_)
    have f6 := (fm_w (lo' := 910) (hi' := 990) rfl rfl (ext_is K1.2 (Nat.zero_lt_succ _) (tN_203 T.1 n_a0)))
    refine gd_c ⟨f6, (h.2 c0_0).1⟩ ?_
    refine gd_fi (fun c2_0 => ?_) (fun c2_0 => ?_)
    · exact gd_tR K1.2 (gX11_load_100 _ _ ⟨K1.1.1, K1.1.2⟩  )
    · have f3 := ((tF_920 K1.1.1 (ext_is K1.2 (Nat.zero_lt_succ _) (tN_203 T.1 n_a0)) (h.2 c0_0).1) c2_0)
      refine gd_c f3 ?_
      have f5 := ((tF_920 K1.1.1 (ext_is K1.2 (Nat.zero_lt_succ _) (tN_203 T.1 n_a0)) (h.2 c0_0).1) c2_0)
      refine gd_b (gX91_get _ _ _ _ ⟨K1.1.1, K1.1.2⟩ f5 ((h.2 c0_0).2.2 c2_0).1) (fun K4 => ?_)
      exact gd_tR (ext_tr K1.2 K4.2) (gX11_load_100 _ _ ⟨K4.1.1, K4.1.2⟩  )
noncomputable def GX11_load_0 (a0 : Nat) (a1 : Int64) (a3 : Int32) (M : FM) : Int64 × FM :=
  let r1 : Int32 × FM := GX11_placeOf a1 M
  let r2 : Int32 × FM := GJ5_min a3 ((Int32.ofInt 4096) - r1.1) r1.2
  let r3 : Int32 × FM := GX11_pageOf a1 r2.2
  let x4 : Nat := (r2.2.2.2 203 a0 0)
  let x5 : Nat := (r3.2.2.2 3 x4 r3.1.toNatClampNeg)
  fi (x5 = 0) (
    GX11_load_47 a0 a1 a3 r2.1 (Int64.ofInt 0) r3.2) (
    let r6 : Int64 × FM := GX91_get x5 r1.1 r2.1 r3.2
    GX11_load_47 a0 a1 a3 r2.1 r6.1 r6.2)
def HX11_load_0 (a0 : Nat) (a1 : Int64) (a3 : Int32) (M : FM) : Prop := let r1 : Int32 × FM := GX11_placeOf a1 M; let r2 : Int32 × FM := GJ5_min a3 ((Int32.ofInt 4096) - r1.1) r1.2; let r3 : Int32 × FM := GX11_pageOf a1 r2.2; let x4 : Nat := (r2.2.2.2 203 a0 0); (fm_in r3.2 x4 r3.1 = true ∧ let x5 : Nat := (r3.2.2.2 3 x4 r3.1.toNatClampNeg); ((x5 = 0 → HX11_load_47 a0 a1 a3 r2.1 (Int64.ofInt 0) r3.2) ∧ (¬ (x5 = 0) → (HX91_get x5 r1.1 r2.1 r3.2 ∧ let r6 : Int64 × FM := GX91_get x5 r1.1 r2.1 r3.2; HX11_load_47 a0 a1 a3 r2.1 r6.1 r6.2))))
theorem gX11_load_0 (a0 : Nat) (a1 : Int64) (a3 : Int32) (M : FM) (T : Ty M) (n_a0 : fm_is M 73 73 a0 = true) (h : HX11_load_0 a0 a1 a3 M) : gd (FX11_load_0 a0 a1 a3 M) (GX11_load_0 a0 a1 a3 M) (OkR M) := by
  delta FX11_load_0 BX11_load_0
  refine gd_b (gX11_placeOf _ _ ⟨T.1, T.2⟩  ) (fun K0 => ?_)
  refine gd_b (gJ5_min _ _ _ ⟨K0.1.1, K0.1.2⟩  ) (fun K1 => ?_)
  have f2 := (ext_is K1.2 (Nat.zero_lt_succ _) (ext_is K0.2 (Nat.zero_lt_succ _) n_a0))
  refine gd_c f2 ?_
  refine gd_b (gX11_pageOf _ _ ⟨K1.1.1, K1.1.2⟩  ) (fun K3 => ?_)
  have f10 := (fm_w (lo' := 910) (hi' := 990) rfl rfl (ext_is K3.2 (Nat.zero_lt_succ _) (tN_203 K1.1.1 (ext_is K1.2 (Nat.zero_lt_succ _) (ext_is K0.2 (Nat.zero_lt_succ _) n_a0)))))
  refine gd_c ⟨f10, h.1⟩ ?_
  refine gd_fi (fun c4_0 => ?_) (fun c4_0 => ?_)
  · have f5 := (ext_is K3.2 (Nat.zero_lt_succ _) (ext_is K1.2 (Nat.zero_lt_succ _) (ext_is K0.2 (Nat.zero_lt_succ _) n_a0)))
    exact gd_tR (ext_tr K0.2 (ext_tr K1.2 K3.2)) (gX11_load_47 _ _ _ _ _ _ ⟨K3.1.1, K3.1.2⟩ f5 (h.2.1 c4_0))
  · have f6 := ((tF_920 K3.1.1 (ext_is K3.2 (Nat.zero_lt_succ _) (tN_203 K1.1.1 (ext_is K1.2 (Nat.zero_lt_succ _) (ext_is K0.2 (Nat.zero_lt_succ _) n_a0)))) h.1) c4_0)
    refine gd_c f6 ?_
    have f9 := ((tF_920 K3.1.1 (ext_is K3.2 (Nat.zero_lt_succ _) (tN_203 K1.1.1 (ext_is K1.2 (Nat.zero_lt_succ _) (ext_is K0.2 (Nat.zero_lt_succ _) n_a0)))) h.1) c4_0)
    refine gd_b (gX91_get _ _ _ _ ⟨K3.1.1, K3.1.2⟩ f9 (h.2.2 c4_0).1) (fun K7 => ?_)
    have f8 := (ext_is K7.2 (Nat.zero_lt_succ _) (ext_is K3.2 (Nat.zero_lt_succ _) (ext_is K1.2 (Nat.zero_lt_succ _) (ext_is K0.2 (Nat.zero_lt_succ _) n_a0))))
    exact gd_tR (ext_tr K0.2 (ext_tr K1.2 (ext_tr K3.2 K7.2))) (gX11_load_47 _ _ _ _ _ _ ⟨K7.1.1, K7.1.2⟩ f8 (h.2.2 c4_0).2)
noncomputable def GX11_load (a0 : Nat) (a1 : Int64) (a3 : Int32) (M : FM) : Int64 × FM := GX11_load_0 a0 a1 a3 M
def HX11_load (a0 : Nat) (a1 : Int64) (a3 : Int32) (M : FM) : Prop := HX11_load_0 a0 a1 a3 M
theorem gX11_load (a0 : Nat) (a1 : Int64) (a3 : Int32) (M : FM) (T : Ty M) (n_a0 : fm_is M 73 73 a0 = true) (h : HX11_load a0 a1 a3 M) : gd (FX11_load a0 a1 a3 M) (GX11_load a0 a1 a3 M) (OkR M) := gX11_load_0 a0 a1 a3 M T n_a0 h
noncomputable def GX85_get_0 (a0 : Nat) (a1 : Int64) (M : FM) : Int64 × FM :=
  let x1 : Nat := (M.2.2 247 a0 0)
  let r2 : Int64 × FM := GX11_load x1 a1 (Int32.ofInt 8) M
  (r2.1, r2.2)
def HX85_get_0 (a0 : Nat) (a1 : Int64) (M : FM) : Prop := let x1 : Nat := (M.2.2 247 a0 0); (HX11_load x1 a1 (Int32.ofInt 8) M ∧ True)
theorem gX85_get_0 (a0 : Nat) (a1 : Int64) (M : FM) (T : Ty M) (n_a0 : fm_is M 81 81 a0 = true) (h : HX85_get_0 a0 a1 M) : gd (FX85_get_0 a0 a1 M) (GX85_get_0 a0 a1 M) (OkR M) := by
  delta FX85_get_0 BX85_get_0
  refine gd_c n_a0 ?_
  have f0 := (tN_247 T.1 n_a0)
  refine gd_c f0 ?_
  have f2 := (tN_247 T.1 n_a0)
  refine gd_b (gX11_load _ _ _ _ ⟨T.1, T.2⟩ f2 h.1) (fun K1 => ?_)
  exact ⟨rfl, ⟨K1.1.1, K1.1.2⟩, K1.2⟩
noncomputable def GX85_get (a0 : Nat) (a1 : Int64) (M : FM) : Int64 × FM := GX85_get_0 a0 a1 M
def HX85_get (a0 : Nat) (a1 : Int64) (M : FM) : Prop := HX85_get_0 a0 a1 M
theorem gX85_get (a0 : Nat) (a1 : Int64) (M : FM) (T : Ty M) (n_a0 : fm_is M 81 81 a0 = true) (h : HX85_get a0 a1 M) : gd (FX85_get a0 a1 M) (GX85_get a0 a1 M) (OkR M) := gX85_get_0 a0 a1 M T n_a0 h
noncomputable def GX102_has_15 (s0 : Int32) (M : FM) : Int32 × FM :=
  (s0, M)
theorem gX102_has_15 (s0 : Int32) (M : FM) (T : Ty M) (z_s0 : s0 = 0 ∨ s0 = 1) : gd (FX102_has_15 s0 M) (GX102_has_15 s0 M) (OkZ M) := by
  delta FX102_has_15 BX102_has_15
  exact gd_z z_s0 ⟨T.1, T.2⟩ (ext_r _) rfl
noncomputable def GX102_has_0 (a0 : Int64) (a2 : Int32) (M : FM) : Int32 × FM :=
  fi ((lg_cmp ((a0.toUInt64 >>> (a2.toInt64.toUInt64 &&& Int64.toUInt64 63)).toInt64 &&& (Int64.ofInt 1)) (Int64.ofInt 1)) = 0) (
    GX102_has_15 (Int32.ofInt 1) M) (
    GX102_has_15 (Int32.ofInt 0) M)
theorem gX102_has_0 (a0 : Int64) (a2 : Int32) (M : FM) (T : Ty M) : gd (FX102_has_0 a0 a2 M) (GX102_has_0 a0 a2 M) (OkZ M) := by
  delta FX102_has_0 BX102_has_0
  refine gd_fi (fun c0_0 => ?_) (fun c0_0 => ?_)
  · exact gd_tZ (ext_r _) (gX102_has_15 _ _ ⟨T.1, T.2⟩ fz_1 )
  · exact gd_tZ (ext_r _) (gX102_has_15 _ _ ⟨T.1, T.2⟩ fz_0 )
noncomputable def GX102_has (a0 : Int64) (a2 : Int32) (M : FM) : Int32 × FM := GX102_has_0 a0 a2 M
theorem gX102_has (a0 : Int64) (a2 : Int32) (M : FM) (T : Ty M) : gd (FX102_has a0 a2 M) (GX102_has a0 a2 M) (OkZ M) := gX102_has_0 a0 a2 M T 
noncomputable def GX84_step_196 (s0 : Int32) (M : FM) : Int32 × FM :=
  (s0, M)
theorem gX84_step_196 (s0 : Int32) (M : FM) (T : Ty M) : gd (FX84_step_196 fN s0 M) (GX84_step_196 s0 M) (OkR M) := by
  delta FX84_step_196 BX84_step_196
  exact ⟨rfl, ⟨T.1, T.2⟩, (ext_r _)⟩
noncomputable def GX84_step_191 (M : FM) : Int32 × FM :=
  GX84_step_196 (Int32.ofInt 1) M
theorem gX84_step_191 (M : FM) (T : Ty M) : gd (FX84_step_191 fN M) (GX84_step_191 M) (OkR M) := by
  delta FX84_step_191 BX84_step_191
  exact gd_tR (ext_r _) (gX84_step_196 _ _ ⟨T.1, T.2⟩  )
noncomputable def GX84_step_157 (a0 : Nat) (s0 : Int32) (M : FM) : Int32 × FM :=
  fi (s0 = 0) (
    let r1 : Int32 × FM := GX102_has (M.2.1 293 a0 0) (Int32.ofInt 1) M
    fi (r1.1 = 0) (
      let r2 : Int32 × FM := GX102_has (r1.2.2.1 293 a0 0) (Int32.ofInt 3) r1.2
      fi (r2.1 = 0) (
        GX84_step_196 (Int32.ofInt 0) r2.2) (
        GX84_step_191 r2.2)) (
      GX84_step_191 r1.2)) (
    GX84_step_196 (Int32.ofInt (-2)) M)
theorem gX84_step_157 (a0 : Nat) (s0 : Int32) (M : FM) (T : Ty M) (n_a0 : fm_is M 91 91 a0 = true) : gd (FX84_step_157 fN a0 s0 M) (GX84_step_157 a0 s0 M) (OkR M) := by
  delta FX84_step_157 BX84_step_157
  refine gd_fi (fun c0_0 => ?_) (fun c0_0 => ?_)
  · refine gd_c n_a0 ?_
    refine gd_b (gX102_has _ _ _ ⟨T.1, T.2⟩  ) (fun K1 => ?_)
    refine gd_fi (fun c2_0 => ?_) (fun c2_0 => ?_)
    · have f3 := (ext_is K1.2.1 (Nat.zero_lt_succ _) n_a0)
      refine gd_c f3 ?_
      refine gd_b (gX102_has _ _ _ ⟨K1.1.1, K1.1.2⟩  ) (fun K4 => ?_)
      refine gd_fi (fun c5_0 => ?_) (fun c5_0 => ?_)
      · exact gd_tR (ext_tr K1.2.1 K4.2.1) (gX84_step_196 _ _ ⟨K4.1.1, K4.1.2⟩  )
      · exact gd_tR (ext_tr K1.2.1 K4.2.1) (gX84_step_191  _ ⟨K4.1.1, K4.1.2⟩  )
    · exact gd_tR K1.2.1 (gX84_step_191  _ ⟨K1.1.1, K1.1.2⟩  )
  · exact gd_tR (ext_r _) (gX84_step_196 _ _ ⟨T.1, T.2⟩  )
noncomputable def GX84_step_152 (a0 : Nat) (M : FM) : Int32 × FM :=
  GX84_step_157 a0 (Int32.ofInt 1) M
theorem gX84_step_152 (a0 : Nat) (M : FM) (T : Ty M) (n_a0 : fm_is M 91 91 a0 = true) : gd (FX84_step_152 fN a0 M) (GX84_step_152 a0 M) (OkR M) := by
  delta FX84_step_152 BX84_step_152
  exact gd_tR (ext_r _) (gX84_step_157 _ _ _ ⟨T.1, T.2⟩ n_a0 )
noncomputable def GX84_step_136 (a0 : Nat) (M : FM) : Int32 × FM :=
  let r1 : Int64 × FM := GX102_bits (M.2.1 293 a0 0) (Int32.ofInt 54) (Int32.ofInt 10) M
  fi ((lg_cmp r1.1 (Int64.ofInt 0)) = 0) (
    GX84_step_157 a0 (Int32.ofInt 0) r1.2) (
    GX84_step_152 a0 r1.2)
theorem gX84_step_136 (a0 : Nat) (M : FM) (T : Ty M) (n_a0 : fm_is M 91 91 a0 = true) : gd (FX84_step_136 fN a0 M) (GX84_step_136 a0 M) (OkR M) := by
  delta FX84_step_136 BX84_step_136
  refine gd_c n_a0 ?_
  refine gd_b (gX102_bits _ _ _ _ ⟨T.1, T.2⟩  ) (fun K0 => ?_)
  refine gd_fi (fun c1_0 => ?_) (fun c1_0 => ?_)
  · have f2 := (ext_is K0.2 (Nat.zero_lt_succ _) n_a0)
    exact gd_tR K0.2 (gX84_step_157 _ _ _ ⟨K0.1.1, K0.1.2⟩ f2 )
  · have f3 := (ext_is K0.2 (Nat.zero_lt_succ _) n_a0)
    exact gd_tR K0.2 (gX84_step_152 _ _ ⟨K0.1.1, K0.1.2⟩ f3 )
noncomputable def GX84_step_61 (M : FM) : Int32 × FM :=
  ((Int32.ofInt (-1)), M)
theorem gX84_step_61 (M : FM) (T : Ty M) : gd (FX84_step_61 fN M) (GX84_step_61 M) (OkR M) := by
  delta FX84_step_61 BX84_step_61
  exact ⟨rfl, ⟨T.1, T.2⟩, (ext_r _)⟩
noncomputable def GX84_step_0 (a0 : Nat) (a1 : Int64) (a3 : Int64) (a5 : Int32) (M : FM) : Int32 × FM :=
  let r1 : Int64 × FM := GX102_bits a3 ((Int32.ofInt 12) + ((Int32.ofInt 9) * a5)) (Int32.ofInt 9) M
  let M2 : FM := fm_sL r1.2 292 a0 0 ((a1 <<< ((Int32.ofInt 12).toInt64 &&& 63)) + ((Int64.ofInt 8) * r1.1))
  let x3 : Nat := (M2.2.2 287 a0 0)
  let r4 : Int32 × FM := GX85_has x3 (M2.2.1 292 a0 0) M2
  fi (r4.1 = 0) (
    GX84_step_61 r4.2) (
    let x5 : Nat := (r4.2.2.2 288 a0 0)
    let r6 : Int32 × FM := GX86_let x5 (r4.2.2.1 292 a0 0) (Int32.ofInt 8) (Int32.ofInt 1) (Int32.ofInt 1) r4.2
    fi (r6.1 = 0) (
      GX84_step_61 r6.2) (
      let x7 : Nat := (r6.2.2.2 287 a0 0)
      let r8 : Int64 × FM := GX85_get x7 (r6.2.2.1 292 a0 0) r6.2
      let M9 : FM := fm_sL r8.2 293 a0 0 r8.1
      let x10 : Int32 := (M9.1 294 a0 0)
      let x11 : Nat := (M9.2.2 295 a0 0)
      let M12 : FM := fm_sL M9 3 x11 x10.toNatClampNeg (M9.2.1 292 a0 0)
      let M13 : FM := fm_sI M12 294 a0 0 ((M12.1 294 a0 0) + (Int32.ofInt 1))
      let r14 : Int32 × FM := GX102_has (M13.2.1 293 a0 0) (Int32.ofInt 0) M13
      fi (r14.1 = 0) (
        GX84_step_152 a0 r14.2) (
        let r15 : Int32 × FM := GX102_has (r14.2.2.1 293 a0 0) (Int32.ofInt 2) r14.2
        fi (r15.1 = 0) (
          GX84_step_136 a0 r15.2) (
          let r16 : Int32 × FM := GX102_has (r15.2.2.1 293 a0 0) (Int32.ofInt 1) r15.2
          fi (r16.1 = 0) (
            GX84_step_152 a0 r16.2) (
            GX84_step_136 a0 r16.2)))))
def HX84_step_0 (a0 : Nat) (a1 : Int64) (a3 : Int64) (a5 : Int32) (M : FM) : Prop := let r1 : Int64 × FM := GX102_bits a3 ((Int32.ofInt 12) + ((Int32.ofInt 9) * a5)) (Int32.ofInt 9) M; let M2 : FM := fm_sL r1.2 292 a0 0 ((a1 <<< ((Int32.ofInt 12).toInt64 &&& 63)) + ((Int64.ofInt 8) * r1.1)); let x3 : Nat := (M2.2.2 287 a0 0); let r4 : Int32 × FM := GX85_has x3 (M2.2.1 292 a0 0) M2; ((r4.1 = 0 → True) ∧ (¬ (r4.1 = 0) → let x5 : Nat := (r4.2.2.2 288 a0 0); (HX86_let x5 (r4.2.2.1 292 a0 0) (Int32.ofInt 8) (Int32.ofInt 1) (Int32.ofInt 1) r4.2 ∧ let r6 : Int32 × FM := GX86_let x5 (r4.2.2.1 292 a0 0) (Int32.ofInt 8) (Int32.ofInt 1) (Int32.ofInt 1) r4.2; ((r6.1 = 0 → True) ∧ (¬ (r6.1 = 0) → let x7 : Nat := (r6.2.2.2 287 a0 0); (HX85_get x7 (r6.2.2.1 292 a0 0) r6.2 ∧ let r8 : Int64 × FM := GX85_get x7 (r6.2.2.1 292 a0 0) r6.2; let M9 : FM := fm_sL r8.2 293 a0 0 r8.1; let x10 : Int32 := (M9.1 294 a0 0); let x11 : Nat := (M9.2.2 295 a0 0); (fm_in M9 x11 x10 = true ∧ True)))))))
theorem gX84_step_0 (a0 : Nat) (a1 : Int64) (a3 : Int64) (a5 : Int32) (M : FM) (T : Ty M) (n_a0 : fm_is M 91 91 a0 = true) (h : HX84_step_0 a0 a1 a3 a5 M) : gd (FX84_step_0 fN a0 a1 a3 a5 M) (GX84_step_0 a0 a1 a3 a5 M) (OkR M) := by
  delta FX84_step_0 BX84_step_0
  refine gd_b (gX102_bits _ _ _ _ ⟨T.1, T.2⟩  ) (fun K0 => ?_)
  have f1 := (ext_is K0.2 (Nat.zero_lt_succ _) n_a0)
  refine gd_c f1 ?_
  have f2 := (ext_is K0.2 (Nat.zero_lt_succ _) n_a0)
  refine gd_c f2 ?_
  have f3 := (ext_is K0.2 (Nat.zero_lt_succ _) n_a0)
  refine gd_c f3 ?_
  have f4 := (tN_287 K0.1.1 (ext_is K0.2 (Nat.zero_lt_succ _) n_a0))
  refine gd_kb (gk_fi (gk_b _ _) gk_0) (gd_c f4 (gX85_has _ _ _ ⟨K0.1.1, K0.1.2⟩ f4 )) (fun K5 => ?_)
  refine gd_fi (fun c6_0 => ?_) (fun c6_0 => ?_)
  · exact gd_tR (ext_tr K0.2 (ext_dL K5.2.1)) (gX84_step_61  _ ⟨K5.1.1, K5.1.2⟩  )
  · have f7 := (ext_is K5.2.1 (Nat.zero_lt_succ _) (ext_is K0.2 (Nat.zero_lt_succ _) n_a0))
    refine gd_c f7 ?_
    have f8 := (ext_is K5.2.1 (Nat.zero_lt_succ _) (ext_is K0.2 (Nat.zero_lt_succ _) n_a0))
    refine gd_c f8 ?_
    have f9 := (tN_288 K5.1.1 (ext_is K5.2.1 (Nat.zero_lt_succ _) (ext_is K0.2 (Nat.zero_lt_succ _) n_a0)))
    refine gd_c f9 ?_
    refine gd_b (gX86_let _ _ _ _ _ _ (h.2 c6_0).1) (fun K10 => ?_)
    refine gd_fi (fun c11_0 => ?_) (fun c11_0 => ?_)
    · exact gd_tR (ext_tr K0.2 (ext_dL (ext_tr K5.2.1 K10.2.1))) (gX84_step_61  _ ⟨K10.1.1, K10.1.2⟩  )
    · have f12 := (ext_is K10.2.1 (Nat.zero_lt_succ _) (ext_is K5.2.1 (Nat.zero_lt_succ _) (ext_is K0.2 (Nat.zero_lt_succ _) n_a0)))
      refine gd_c f12 ?_
      have f13 := (ext_is K10.2.1 (Nat.zero_lt_succ _) (ext_is K5.2.1 (Nat.zero_lt_succ _) (ext_is K0.2 (Nat.zero_lt_succ _) n_a0)))
      refine gd_c f13 ?_
      have f14 := (tN_287 K10.1.1 (ext_is K10.2.1 (Nat.zero_lt_succ _) (ext_is K5.2.1 (Nat.zero_lt_succ _) (ext_is K0.2 (Nat.zero_lt_succ _) n_a0))))
      refine gd_kb (gk_fi (gk_b _ _) gk_0) (gd_c f14 (gX85_get _ _ _ ⟨K10.1.1, K10.1.2⟩ f14 ((h.2 c6_0).2.2 c11_0).1)) (fun K15 => ?_)
      have f16 := (ext_is K15.2 (Nat.zero_lt_succ _) (ext_is K10.2.1 (Nat.zero_lt_succ _) (ext_is K5.2.1 (Nat.zero_lt_succ _) (ext_is K0.2 (Nat.zero_lt_succ _) n_a0))))
      refine gd_c f16 ?_
      have f17 := (ext_is K15.2 (Nat.zero_lt_succ _) (ext_is K10.2.1 (Nat.zero_lt_succ _) (ext_is K5.2.1 (Nat.zero_lt_succ _) (ext_is K0.2 (Nat.zero_lt_succ _) n_a0))))
      refine gd_c f17 ?_
      have f18 := (ext_is K15.2 (Nat.zero_lt_succ _) (ext_is K10.2.1 (Nat.zero_lt_succ _) (ext_is K5.2.1 (Nat.zero_lt_succ _) (ext_is K0.2 (Nat.zero_lt_succ _) n_a0))))
      refine gd_c f18 ?_
      have f19 := (ext_is K15.2 (Nat.zero_lt_succ _) (ext_is K10.2.1 (Nat.zero_lt_succ _) (ext_is K5.2.1 (Nat.zero_lt_succ _) (ext_is K0.2 (Nat.zero_lt_succ _) n_a0))))
      refine gd_c f19 ?_
      have f20 := (tN_295 K15.1.1 (ext_is K15.2 (Nat.zero_lt_succ _) (ext_is K10.2.1 (Nat.zero_lt_succ _) (ext_is K5.2.1 (Nat.zero_lt_succ _) (ext_is K0.2 (Nat.zero_lt_succ _) n_a0)))))
      have f21 := ((h.2 c6_0).2.2 c11_0).2.1
      refine gd_c ⟨f20, f21⟩ ?_
      have f22 := (ext_is K15.2 (Nat.zero_lt_succ _) (ext_is K10.2.1 (Nat.zero_lt_succ _) (ext_is K5.2.1 (Nat.zero_lt_succ _) (ext_is K0.2 (Nat.zero_lt_succ _) n_a0))))
      refine gd_c f22 ?_
      have f23 := (ext_is K15.2 (Nat.zero_lt_succ _) (ext_is K10.2.1 (Nat.zero_lt_succ _) (ext_is K5.2.1 (Nat.zero_lt_succ _) (ext_is K0.2 (Nat.zero_lt_succ _) n_a0))))
      refine gd_c f23 ?_
      have f24 := (ext_is K15.2 (Nat.zero_lt_succ _) (ext_is K10.2.1 (Nat.zero_lt_succ _) (ext_is K5.2.1 (Nat.zero_lt_succ _) (ext_is K0.2 (Nat.zero_lt_succ _) n_a0))))
      refine gd_c f24 ?_
      refine gd_b (gX102_has _ _ _ ⟨K15.1.1, (tyb_sI (f := 294) rfl K15.1.2)⟩  ) (fun K25 => ?_)
      refine gd_fi (fun c26_0 => ?_) (fun c26_0 => ?_)
      · have f27 := (ext_is K25.2.1 (Nat.zero_lt_succ _) (ext_is K15.2 (Nat.zero_lt_succ _) (ext_is K10.2.1 (Nat.zero_lt_succ _) (ext_is K5.2.1 (Nat.zero_lt_succ _) (ext_is K0.2 (Nat.zero_lt_succ _) n_a0)))))
        exact gd_tR (ext_tr K0.2 (ext_dL (ext_tr K5.2.1 (ext_tr K10.2.1 (ext_tr K15.2 (ext_dL (ext_dL (ext_dI K25.2.1)))))))) (gX84_step_152 _ _ ⟨K25.1.1, K25.1.2⟩ f27 )
      · have f28 := (ext_is K25.2.1 (Nat.zero_lt_succ _) (ext_is K15.2 (Nat.zero_lt_succ _) (ext_is K10.2.1 (Nat.zero_lt_succ _) (ext_is K5.2.1 (Nat.zero_lt_succ _) (ext_is K0.2 (Nat.zero_lt_succ _) n_a0)))))
        refine gd_c f28 ?_
        refine gd_b (gX102_has _ _ _ ⟨K25.1.1, K25.1.2⟩  ) (fun K29 => ?_)
        refine gd_fi (fun c30_0 => ?_) (fun c30_0 => ?_)
        · have f31 := (ext_is K29.2.1 (Nat.zero_lt_succ _) (ext_is K25.2.1 (Nat.zero_lt_succ _) (ext_is K15.2 (Nat.zero_lt_succ _) (ext_is K10.2.1 (Nat.zero_lt_succ _) (ext_is K5.2.1 (Nat.zero_lt_succ _) (ext_is K0.2 (Nat.zero_lt_succ _) n_a0))))))
          exact gd_tR (ext_tr K0.2 (ext_dL (ext_tr K5.2.1 (ext_tr K10.2.1 (ext_tr K15.2 (ext_dL (ext_dL (ext_dI (ext_tr K25.2.1 K29.2.1))))))))) (gX84_step_136 _ _ ⟨K29.1.1, K29.1.2⟩ f31 )
        · have f32 := (ext_is K29.2.1 (Nat.zero_lt_succ _) (ext_is K25.2.1 (Nat.zero_lt_succ _) (ext_is K15.2 (Nat.zero_lt_succ _) (ext_is K10.2.1 (Nat.zero_lt_succ _) (ext_is K5.2.1 (Nat.zero_lt_succ _) (ext_is K0.2 (Nat.zero_lt_succ _) n_a0))))))
          refine gd_c f32 ?_
          refine gd_b (gX102_has _ _ _ ⟨K29.1.1, K29.1.2⟩  ) (fun K33 => ?_)
          refine gd_fi (fun c34_0 => ?_) (fun c34_0 => ?_)
          · have f35 := (ext_is K33.2.1 (Nat.zero_lt_succ _) (ext_is K29.2.1 (Nat.zero_lt_succ _) (ext_is K25.2.1 (Nat.zero_lt_succ _) (ext_is K15.2 (Nat.zero_lt_succ _) (ext_is K10.2.1 (Nat.zero_lt_succ _) (ext_is K5.2.1 (Nat.zero_lt_succ _) (ext_is K0.2 (Nat.zero_lt_succ _) n_a0)))))))
            exact gd_tR (ext_tr K0.2 (ext_dL (ext_tr K5.2.1 (ext_tr K10.2.1 (ext_tr K15.2 (ext_dL (ext_dL (ext_dI (ext_tr K25.2.1 (ext_tr K29.2.1 K33.2.1)))))))))) (gX84_step_152 _ _ ⟨K33.1.1, K33.1.2⟩ f35 )
          · have f36 := (ext_is K33.2.1 (Nat.zero_lt_succ _) (ext_is K29.2.1 (Nat.zero_lt_succ _) (ext_is K25.2.1 (Nat.zero_lt_succ _) (ext_is K15.2 (Nat.zero_lt_succ _) (ext_is K10.2.1 (Nat.zero_lt_succ _) (ext_is K5.2.1 (Nat.zero_lt_succ _) (ext_is K0.2 (Nat.zero_lt_succ _) n_a0)))))))
            exact gd_tR (ext_tr K0.2 (ext_dL (ext_tr K5.2.1 (ext_tr K10.2.1 (ext_tr K15.2 (ext_dL (ext_dL (ext_dI (ext_tr K25.2.1 (ext_tr K29.2.1 K33.2.1)))))))))) (gX84_step_136 _ _ ⟨K33.1.1, K33.1.2⟩ f36 )
noncomputable def GX84_step (a0 : Nat) (a1 : Int64) (a3 : Int64) (a5 : Int32) (M : FM) : Int32 × FM := GX84_step_0 a0 a1 a3 a5 M
def HX84_step (a0 : Nat) (a1 : Int64) (a3 : Int64) (a5 : Int32) (M : FM) : Prop := HX84_step_0 a0 a1 a3 a5 M
theorem gX84_step (a0 : Nat) (a1 : Int64) (a3 : Int64) (a5 : Int32) (M : FM) (T : Ty M) (n_a0 : fm_is M 91 91 a0 = true) (h : HX84_step a0 a1 a3 a5 M) : gd (FX84_step fN a0 a1 a3 a5 M) (GX84_step a0 a1 a3 a5 M) (OkR M) := gX84_step_0 a0 a1 a3 a5 M T n_a0 h
noncomputable def GX84_may_107 (s0 : Int32) (M : FM) : Int32 × FM :=
  (s0, M)
theorem gX84_may_107 (s0 : Int32) (M : FM) (T : Ty M) (z_s0 : s0 = 0 ∨ s0 = 1) : gd (FX84_may_107 s0 M) (GX84_may_107 s0 M) (OkZ M) := by
  delta FX84_may_107 BX84_may_107
  exact gd_z z_s0 ⟨T.1, T.2⟩ (ext_r _) rfl
noncomputable def GX84_may_95 (M : FM) : Int32 × FM :=
  GX84_may_107 (Int32.ofInt 0) M
theorem gX84_may_95 (M : FM) (T : Ty M) : gd (FX84_may_95 M) (GX84_may_95 M) (OkZ M) := by
  delta FX84_may_95 BX84_may_95
  exact gd_tZ (ext_r _) (gX84_may_107 _ _ ⟨T.1, T.2⟩ fz_0 )
noncomputable def GX84_may_91 (M : FM) : Int32 × FM :=
  GX84_may_107 (Int32.ofInt 1) M
theorem gX84_may_91 (M : FM) (T : Ty M) : gd (FX84_may_91 M) (GX84_may_91 M) (OkZ M) := by
  delta FX84_may_91 BX84_may_91
  exact gd_tZ (ext_r _) (gX84_may_107 _ _ ⟨T.1, T.2⟩ fz_1 )
noncomputable def GX84_may_40 (a0 : Nat) (a1 : Int32) (M : FM) : Int32 × FM :=
  fi (a1 = 0) (
    let r1 : Int32 × FM := GX102_has (M.2.1 293 a0 0) (Int32.ofInt 3) M
    GX84_may_107 r1.1 r1.2) (
    fi (a1 = (Int32.ofInt 1)) (
      let r2 : Int32 × FM := GX102_has (M.2.1 293 a0 0) (Int32.ofInt 1) M
      fi (r2.1 = 0) (
        fi (((r2.2.1 290 a0 0) &&& (Int32.ofInt 2)) = 0) (
          GX84_may_95 r2.2) (
          let r3 : Int32 × FM := GX102_has (r2.2.2.1 293 a0 0) (Int32.ofInt 3) r2.2
          fi (r3.1 = 0) (
            GX84_may_95 r3.2) (
            GX84_may_91 r3.2))) (
        GX84_may_91 r2.2)) (
      let r4 : Int32 × FM := GX102_has (M.2.1 293 a0 0) (Int32.ofInt 2) M
      GX84_may_107 r4.1 r4.2))
theorem gX84_may_40 (a0 : Nat) (a1 : Int32) (M : FM) (T : Ty M) (n_a0 : fm_is M 91 91 a0 = true) : gd (FX84_may_40 a0 a1 M) (GX84_may_40 a0 a1 M) (OkZ M) := by
  delta FX84_may_40 BX84_may_40
  refine gd_fi (fun c0_0 => ?_) (fun c0_0 => ?_)
  · refine gd_c n_a0 ?_
    refine gd_b (gX102_has _ _ _ ⟨T.1, T.2⟩  ) (fun K1 => ?_)
    exact gd_tZ K1.2.1 (gX84_may_107 _ _ ⟨K1.1.1, K1.1.2⟩ K1.2.2 )
  · refine gd_fi (fun c2_0 => ?_) (fun c2_0 => ?_)
    · refine gd_c n_a0 ?_
      refine gd_b (gX102_has _ _ _ ⟨T.1, T.2⟩  ) (fun K3 => ?_)
      refine gd_fi (fun c4_0 => ?_) (fun c4_0 => ?_)
      · have f5 := (ext_is K3.2.1 (Nat.zero_lt_succ _) n_a0)
        refine gd_c f5 ?_
        refine gd_fi (fun c6_0 => ?_) (fun c6_0 => ?_)
        · exact gd_tZ K3.2.1 (gX84_may_95  _ ⟨K3.1.1, K3.1.2⟩  )
        · have f7 := (ext_is K3.2.1 (Nat.zero_lt_succ _) n_a0)
          refine gd_c f7 ?_
          refine gd_b (gX102_has _ _ _ ⟨K3.1.1, K3.1.2⟩  ) (fun K8 => ?_)
          refine gd_fi (fun c9_0 => ?_) (fun c9_0 => ?_)
          · exact gd_tZ (ext_tr K3.2.1 K8.2.1) (gX84_may_95  _ ⟨K8.1.1, K8.1.2⟩  )
          · exact gd_tZ (ext_tr K3.2.1 K8.2.1) (gX84_may_91  _ ⟨K8.1.1, K8.1.2⟩  )
      · exact gd_tZ K3.2.1 (gX84_may_91  _ ⟨K3.1.1, K3.1.2⟩  )
    · refine gd_c n_a0 ?_
      refine gd_b (gX102_has _ _ _ ⟨T.1, T.2⟩  ) (fun K10 => ?_)
      exact gd_tZ K10.2.1 (gX84_may_107 _ _ ⟨K10.1.1, K10.1.2⟩ K10.2.2 )
noncomputable def GX84_may_38 (M : FM) : Int32 × FM :=
  ((Int32.ofInt 0), M)
theorem gX84_may_38 (M : FM) (T : Ty M) : gd (FX84_may_38 M) (GX84_may_38 M) (OkZ M) := by
  delta FX84_may_38 BX84_may_38
  exact gd_z fz_0 ⟨T.1, T.2⟩ (ext_r _) rfl
noncomputable def GX84_may_0 (a0 : Nat) (a1 : Int32) (a2 : Int32) (M : FM) : Int32 × FM :=
  let r1 : Int32 × FM := GX102_has (M.2.1 293 a0 0) (Int32.ofInt 4) M
  fi (a2 = (Int32.ofInt 1)) (
    fi (r1.1 = 0) (
      GX84_may_40 a0 a1 r1.2) (
      fi (a1 = 0) (
        GX84_may_38 r1.2) (
        fi (((r1.2.1 290 a0 0) &&& (Int32.ofInt 1)) = 0) (
          GX84_may_38 r1.2) (
          GX84_may_40 a0 a1 r1.2)))) (
    fi (r1.1 = 0) (
      GX84_may_38 r1.2) (
      GX84_may_40 a0 a1 r1.2))
theorem gX84_may_0 (a0 : Nat) (a1 : Int32) (a2 : Int32) (M : FM) (T : Ty M) (n_a0 : fm_is M 91 91 a0 = true) : gd (FX84_may_0 a0 a1 a2 M) (GX84_may_0 a0 a1 a2 M) (OkZ M) := by
  delta FX84_may_0 BX84_may_0
  refine gd_c n_a0 ?_
  refine gd_b (gX102_has _ _ _ ⟨T.1, T.2⟩  ) (fun K0 => ?_)
  refine gd_fi (fun c1_0 => ?_) (fun c1_0 => ?_)
  · refine gd_fi (fun c2_0 => ?_) (fun c2_0 => ?_)
    · have f3 := (ext_is K0.2.1 (Nat.zero_lt_succ _) n_a0)
      exact gd_tZ K0.2.1 (gX84_may_40 _ _ _ ⟨K0.1.1, K0.1.2⟩ f3 )
    · refine gd_fi (fun c4_0 => ?_) (fun c4_0 => ?_)
      · exact gd_tZ K0.2.1 (gX84_may_38  _ ⟨K0.1.1, K0.1.2⟩  )
      · have f5 := (ext_is K0.2.1 (Nat.zero_lt_succ _) n_a0)
        refine gd_c f5 ?_
        refine gd_fi (fun c6_0 => ?_) (fun c6_0 => ?_)
        · exact gd_tZ K0.2.1 (gX84_may_38  _ ⟨K0.1.1, K0.1.2⟩  )
        · have f7 := (ext_is K0.2.1 (Nat.zero_lt_succ _) n_a0)
          exact gd_tZ K0.2.1 (gX84_may_40 _ _ _ ⟨K0.1.1, K0.1.2⟩ f7 )
  · refine gd_fi (fun c8_0 => ?_) (fun c8_0 => ?_)
    · exact gd_tZ K0.2.1 (gX84_may_38  _ ⟨K0.1.1, K0.1.2⟩  )
    · have f9 := (ext_is K0.2.1 (Nat.zero_lt_succ _) n_a0)
      exact gd_tZ K0.2.1 (gX84_may_40 _ _ _ ⟨K0.1.1, K0.1.2⟩ f9 )
noncomputable def GX84_may (a0 : Nat) (a1 : Int32) (a2 : Int32) (M : FM) : Int32 × FM := GX84_may_0 a0 a1 a2 M
theorem gX84_may (a0 : Nat) (a1 : Int32) (a2 : Int32) (M : FM) (T : Ty M) (n_a0 : fm_is M 91 91 a0 = true) : gd (FX84_may a0 a1 a2 M) (GX84_may a0 a1 a2 M) (OkZ M) := gX84_may_0 a0 a1 a2 M T n_a0 
noncomputable def GX85_put_0 (a0 : Nat) (a1 : Int64) (a3 : Int64) (M : FM) : FM :=
  let x1 : Nat := (M.2.2 247 a0 0)
  let M2 : FM := GX11_store x1 a1 (Int32.ofInt 8) a3 M
  M2
def HX85_put_0 (a0 : Nat) (a1 : Int64) (a3 : Int64) (M : FM) : Prop := let x1 : Nat := (M.2.2 247 a0 0); (HX11_store x1 a1 (Int32.ofInt 8) a3 M ∧ True)
theorem gX85_put_0 (a0 : Nat) (a1 : Int64) (a3 : Int64) (M : FM) (T : Ty M) (n_a0 : fm_is M 81 81 a0 = true) (h : HX85_put_0 a0 a1 a3 M) : gd (FX85_put_0 fN a0 a1 a3 M) (GX85_put_0 a0 a1 a3 M) (OkV M) := by
  delta FX85_put_0 BX85_put_0
  refine gd_c n_a0 ?_
  have f0 := (tN_247 T.1 n_a0)
  refine gd_c f0 ?_
  have f2 := (tN_247 T.1 n_a0)
  refine gd_b (gX11_store _ _ _ _ _ ⟨T.1, T.2⟩ f2 h.1) (fun K1 => ?_)
  exact ⟨rfl, ⟨K1.1.1, K1.1.2⟩, K1.2⟩
noncomputable def GX85_put (a0 : Nat) (a1 : Int64) (a3 : Int64) (M : FM) : FM := GX85_put_0 a0 a1 a3 M
def HX85_put (a0 : Nat) (a1 : Int64) (a3 : Int64) (M : FM) : Prop := HX85_put_0 a0 a1 a3 M
theorem gX85_put (a0 : Nat) (a1 : Int64) (a3 : Int64) (M : FM) (T : Ty M) (n_a0 : fm_is M 81 81 a0 = true) (h : HX85_put a0 a1 a3 M) : gd (FX85_put fN a0 a1 a3 M) (GX85_put a0 a1 a3 M) (OkV M) := gX85_put_0 a0 a1 a3 M T n_a0 h
noncomputable def GX84_last_120 (a1 : Int64) (a5 : Int32) (a6 : Int64) (M : FM) : Int64 × FM :=
  let r1 : Int64 × FM := GX102_bits a1 (Int32.ofInt 0) ((Int32.ofInt 12) + ((Int32.ofInt 9) * a5)) M
  (((a6 <<< ((Int32.ofInt 12).toInt64 &&& 63)) ||| r1.1), r1.2)
theorem gX84_last_120 (a1 : Int64) (a5 : Int32) (a6 : Int64) (M : FM) (T : Ty M) : gd (FX84_last_120 fN a1 a5 a6 M) (GX84_last_120 a1 a5 a6 M) (OkR M) := by
  delta FX84_last_120 BX84_last_120
  refine gd_b (gX102_bits _ _ _ _ ⟨T.1, T.2⟩  ) (fun K0 => ?_)
  exact ⟨rfl, ⟨K0.1.1, K0.1.2⟩, K0.2⟩
noncomputable def GX84_last_60 (a0 : Nat) (a1 : Int64) (a3 : Int32) (a5 : Int32) (a6 : Int64) (s0 : Int64) (M : FM) : Int64 × FM :=
  fi ((lg_cmp ((M.2.1 293 a0 0) &&& s0) s0) = 0) (
    GX84_last_120 a1 a5 a6 M) (
    let x1 : Nat := (M.2.2 288 a0 0)
    let r2 : Int32 × FM := GX86_let x1 (M.2.1 292 a0 0) (Int32.ofInt 8) (Int32.ofInt 2) (Int32.ofInt 1) M
    fi (r2.1 = 0) (
      let r3 : Int64 × FM := GX84_fault a0 a3 (Int32.ofInt 0) r2.2
      (r3.1, r3.2)) (
      let x4 : Nat := (r2.2.2.2 287 a0 0)
      let M5 : FM := GX85_put x4 (r2.2.2.1 292 a0 0) ((r2.2.2.1 293 a0 0) ||| s0) r2.2
      GX84_last_120 a1 a5 a6 M5))
def HX84_last_60 (a0 : Nat) (a1 : Int64) (a3 : Int32) (a5 : Int32) (a6 : Int64) (s0 : Int64) (M : FM) : Prop := (((lg_cmp ((M.2.1 293 a0 0) &&& s0) s0) = 0 → True) ∧ (¬ ((lg_cmp ((M.2.1 293 a0 0) &&& s0) s0) = 0) → let x1 : Nat := (M.2.2 288 a0 0); (HX86_let x1 (M.2.1 292 a0 0) (Int32.ofInt 8) (Int32.ofInt 2) (Int32.ofInt 1) M ∧ let r2 : Int32 × FM := GX86_let x1 (M.2.1 292 a0 0) (Int32.ofInt 8) (Int32.ofInt 2) (Int32.ofInt 1) M; ((r2.1 = 0 → (HX84_fault a0 a3 (Int32.ofInt 0) r2.2 ∧ True)) ∧ (¬ (r2.1 = 0) → let x4 : Nat := (r2.2.2.2 287 a0 0); (HX85_put x4 (r2.2.2.1 292 a0 0) ((r2.2.2.1 293 a0 0) ||| s0) r2.2 ∧ True))))))
theorem gX84_last_60 (a0 : Nat) (a1 : Int64) (a3 : Int32) (a5 : Int32) (a6 : Int64) (s0 : Int64) (M : FM) (T : Ty M) (n_a0 : fm_is M 91 91 a0 = true) (h : HX84_last_60 a0 a1 a3 a5 a6 s0 M) : gd (FX84_last_60 fN a0 a1 a3 a5 a6 s0 M) (GX84_last_60 a0 a1 a3 a5 a6 s0 M) (OkR M) := by
  delta FX84_last_60 BX84_last_60
  refine gd_c n_a0 ?_
  refine gd_fi (fun c0_0 => ?_) (fun c0_0 => ?_)
  · exact gd_tR (ext_r _) (gX84_last_120 _ _ _ _ ⟨T.1, T.2⟩  )
  · refine gd_c n_a0 ?_
    refine gd_c n_a0 ?_
    have f1 := (tN_288 T.1 n_a0)
    refine gd_c f1 ?_
    refine gd_b (gX86_let _ _ _ _ _ _ (h.2 c0_0).1) (fun K2 => ?_)
    refine gd_fi (fun c3_0 => ?_) (fun c3_0 => ?_)
    · have f4 := (ext_is K2.2.1 (Nat.zero_lt_succ _) n_a0)
      refine gd_c f4 ?_
      have f6 := (ext_is K2.2.1 (Nat.zero_lt_succ _) n_a0)
      refine gd_b (gX84_fault _ _ _ _ ⟨K2.1.1, K2.1.2⟩ f6 ((h.2 c0_0).2.1 c3_0).1) (fun K5 => ?_)
      exact ⟨rfl, ⟨K5.1.1, K5.1.2⟩, (ext_tr K2.2.1 K5.2)⟩
    · have f7 := (ext_is K2.2.1 (Nat.zero_lt_succ _) n_a0)
      refine gd_c f7 ?_
      have f8 := (ext_is K2.2.1 (Nat.zero_lt_succ _) n_a0)
      refine gd_c f8 ?_
      have f9 := (ext_is K2.2.1 (Nat.zero_lt_succ _) n_a0)
      refine gd_c f9 ?_
      have f10 := (tN_287 K2.1.1 (ext_is K2.2.1 (Nat.zero_lt_succ _) n_a0))
      refine gd_kb (gk_fi (gk_b _ _) gk_0) (gd_c f10 (gX85_put _ _ _ _ ⟨K2.1.1, K2.1.2⟩ f10 ((h.2 c0_0).2.2 c3_0).1)) (fun K11 => ?_)
      exact gd_tR (ext_tr K2.2.1 K11.2) (gX84_last_120 _ _ _ _ ⟨K11.1.1, K11.1.2⟩  )
noncomputable def GX84_last_39 (a0 : Nat) (a3 : Int32) (M : FM) : Int64 × FM :=
  let r1 : Int64 × FM := GX84_fault a0 a3 (Int32.ofInt 1) M
  (r1.1, r1.2)
def HX84_last_39 (a0 : Nat) (a3 : Int32) (M : FM) : Prop := (HX84_fault a0 a3 (Int32.ofInt 1) M ∧ True)
theorem gX84_last_39 (a0 : Nat) (a3 : Int32) (M : FM) (T : Ty M) (n_a0 : fm_is M 91 91 a0 = true) (h : HX84_last_39 a0 a3 M) : gd (FX84_last_39 fN a0 a3 M) (GX84_last_39 a0 a3 M) (OkR M) := by
  delta FX84_last_39 BX84_last_39
  refine gd_c n_a0 ?_
  refine gd_b (gX84_fault _ _ _ _ ⟨T.1, T.2⟩ n_a0 h.1) (fun K0 => ?_)
  exact ⟨rfl, ⟨K0.1.1, K0.1.2⟩, K0.2⟩
noncomputable def GX84_last_0 (a0 : Nat) (a1 : Int64) (a3 : Int32) (a4 : Int32) (a5 : Int32) (M : FM) : Int64 × FM :=
  let r1 : Int64 × FM := GX102_bits (M.2.1 293 a0 0) (Int32.ofInt 10) (Int32.ofInt 44) M
  let r2 : Int64 × FM := GX102_bits r1.1 (Int32.ofInt 0) ((Int32.ofInt 9) * a5) r1.2
  fi ((lg_cmp r2.1 (Int64.ofInt 0)) = 0) (
    let r3 : Int32 × FM := GX84_may a0 a3 a4 r2.2
    fi (r3.1 = 0) (
      GX84_last_39 a0 a3 r3.2) (
      fi (a3 = (Int32.ofInt 2)) (
        GX84_last_60 a0 a1 a3 a5 r1.1 (Int64.ofInt 192) r3.2) (
        GX84_last_60 a0 a1 a3 a5 r1.1 (Int64.ofInt 64) r3.2))) (
    GX84_last_39 a0 a3 r2.2)
def HX84_last_0 (a0 : Nat) (a1 : Int64) (a3 : Int32) (a4 : Int32) (a5 : Int32) (M : FM) : Prop := let r1 : Int64 × FM := GX102_bits (M.2.1 293 a0 0) (Int32.ofInt 10) (Int32.ofInt 44) M; let r2 : Int64 × FM := GX102_bits r1.1 (Int32.ofInt 0) ((Int32.ofInt 9) * a5) r1.2; (((lg_cmp r2.1 (Int64.ofInt 0)) = 0 → let r3 : Int32 × FM := GX84_may a0 a3 a4 r2.2; ((r3.1 = 0 → HX84_last_39 a0 a3 r3.2) ∧ (¬ (r3.1 = 0) → ((a3 = (Int32.ofInt 2) → HX84_last_60 a0 a1 a3 a5 r1.1 (Int64.ofInt 192) r3.2) ∧ (¬ (a3 = (Int32.ofInt 2)) → HX84_last_60 a0 a1 a3 a5 r1.1 (Int64.ofInt 64) r3.2))))) ∧ (¬ ((lg_cmp r2.1 (Int64.ofInt 0)) = 0) → HX84_last_39 a0 a3 r2.2))
theorem gX84_last_0 (a0 : Nat) (a1 : Int64) (a3 : Int32) (a4 : Int32) (a5 : Int32) (M : FM) (T : Ty M) (n_a0 : fm_is M 91 91 a0 = true) (h : HX84_last_0 a0 a1 a3 a4 a5 M) : gd (FX84_last_0 fN a0 a1 a3 a4 a5 M) (GX84_last_0 a0 a1 a3 a4 a5 M) (OkR M) := by
  delta FX84_last_0 BX84_last_0
  refine gd_c n_a0 ?_
  refine gd_b (gX102_bits _ _ _ _ ⟨T.1, T.2⟩  ) (fun K0 => ?_)
  refine gd_b (gX102_bits _ _ _ _ ⟨K0.1.1, K0.1.2⟩  ) (fun K1 => ?_)
  refine gd_fi (fun c2_0 => ?_) (fun c2_0 => ?_)
  · have f3 := (ext_is K1.2 (Nat.zero_lt_succ _) (ext_is K0.2 (Nat.zero_lt_succ _) n_a0))
    refine gd_c f3 ?_
    have f10 := (ext_is K1.2 (Nat.zero_lt_succ _) (ext_is K0.2 (Nat.zero_lt_succ _) n_a0))
    refine gd_b (gX84_may _ _ _ _ ⟨K1.1.1, K1.1.2⟩ f10 ) (fun K4 => ?_)
    refine gd_fi (fun c5_0 => ?_) (fun c5_0 => ?_)
    · have f6 := (ext_is K4.2.1 (Nat.zero_lt_succ _) (ext_is K1.2 (Nat.zero_lt_succ _) (ext_is K0.2 (Nat.zero_lt_succ _) n_a0)))
      exact gd_tR (ext_tr K0.2 (ext_tr K1.2 K4.2.1)) (gX84_last_39 _ _ _ ⟨K4.1.1, K4.1.2⟩ f6 ((h.1 c2_0).1 c5_0))
    · refine gd_fi (fun c7_0 => ?_) (fun c7_0 => ?_)
      · have f8 := (ext_is K4.2.1 (Nat.zero_lt_succ _) (ext_is K1.2 (Nat.zero_lt_succ _) (ext_is K0.2 (Nat.zero_lt_succ _) n_a0)))
        exact gd_tR (ext_tr K0.2 (ext_tr K1.2 K4.2.1)) (gX84_last_60 _ _ _ _ _ _ _ ⟨K4.1.1, K4.1.2⟩ f8 (((h.1 c2_0).2 c5_0).1 c7_0))
      · have f9 := (ext_is K4.2.1 (Nat.zero_lt_succ _) (ext_is K1.2 (Nat.zero_lt_succ _) (ext_is K0.2 (Nat.zero_lt_succ _) n_a0)))
        exact gd_tR (ext_tr K0.2 (ext_tr K1.2 K4.2.1)) (gX84_last_60 _ _ _ _ _ _ _ ⟨K4.1.1, K4.1.2⟩ f9 (((h.1 c2_0).2 c5_0).2 c7_0))
  · have f11 := (ext_is K1.2 (Nat.zero_lt_succ _) (ext_is K0.2 (Nat.zero_lt_succ _) n_a0))
    exact gd_tR (ext_tr K0.2 K1.2) (gX84_last_39 _ _ _ ⟨K1.1.1, K1.1.2⟩ f11 (h.2 c2_0))
noncomputable def GX84_last (a0 : Nat) (a1 : Int64) (a3 : Int32) (a4 : Int32) (a5 : Int32) (M : FM) : Int64 × FM := GX84_last_0 a0 a1 a3 a4 a5 M
def HX84_last (a0 : Nat) (a1 : Int64) (a3 : Int32) (a4 : Int32) (a5 : Int32) (M : FM) : Prop := HX84_last_0 a0 a1 a3 a4 a5 M
theorem gX84_last (a0 : Nat) (a1 : Int64) (a3 : Int32) (a4 : Int32) (a5 : Int32) (M : FM) (T : Ty M) (n_a0 : fm_is M 91 91 a0 = true) (h : HX84_last a0 a1 a3 a4 a5 M) : gd (FX84_last fN a0 a1 a3 a4 a5 M) (GX84_last a0 a1 a3 a4 a5 M) (OkR M) := gX84_last_0 a0 a1 a3 a4 a5 M T n_a0 h
def kX84_walk (k87 : Nat → Int64 → Int32 → Int32 → Int32 → Int32 → FM → Option (Int64 × FM)) : (Nat × Int64 × Int32 × Int32 × Int32 × Int32 × FM) ⊕ (Int64 × FM) → Option (Int64 × FM)
  | .inl (v0, v1, v2, v3, v4, v5, M') => k87 v0 v1 v2 v3 v4 v5 M'
  | .inr (r) => some r
def pX84_walk (M : FM) : (Nat × Int64 × Int32 × Int32 × Int32 × Int32 × FM) ⊕ (Int64 × FM) → Prop
  | .inl (_, _, _, _, _, _, M') => OkV M M'
  | .inr (r) => OkR M r
theorem pX84_walk_t {M M1 : FM} (e : Ext M M1) : ∀ y, pX84_walk M1 y → pX84_walk M y
  | .inl (_, _, _, _, _, _, _), h => ⟨h.1, ext_tr e h.2⟩
  | .inr (r), h => ⟨h.1, ext_tr e h.2⟩
noncomputable def GX84_walk_203 (s0 : Int64) (M : FM) : (Nat × Int64 × Int32 × Int32 × Int32 × Int32 × FM) ⊕ (Int64 × FM) :=
  (.inr (s0, M))
theorem gX84_walk_203 (k87 : Nat → Int64 → Int32 → Int32 → Int32 → Int32 → FM → Option (Int64 × FM)) (s0 : Int64) (M : FM) (T : Ty M) : gs (FX84_walk_203 fN k87 s0 M) (GX84_walk_203 s0 M) (kX84_walk k87) (pX84_walk M) := by
  delta FX84_walk_203 BX84_walk_203
  exact And.intro rfl (And.intro (And.intro T.1 T.2) ((ext_r _)))
noncomputable def GX84_walk_187 (s0 : Nat) (s1 : Int32) (s2 : Int32) (M : FM) : (Nat × Int64 × Int32 × Int32 × Int32 × Int32 × FM) ⊕ (Int64 × FM) :=
  let r1 : Int64 × FM := GX84_fault s0 s1 s2 M
  GX84_walk_203 r1.1 r1.2
def HX84_walk_187 (s0 : Nat) (s1 : Int32) (s2 : Int32) (M : FM) : Prop := (HX84_fault s0 s1 s2 M ∧ True)
theorem gX84_walk_187 (k87 : Nat → Int64 → Int32 → Int32 → Int32 → Int32 → FM → Option (Int64 × FM)) (s0 : Nat) (s1 : Int32) (s2 : Int32) (M : FM) (T : Ty M) (n_s0 : fm_is M 91 91 s0 = true) (h : HX84_walk_187 s0 s1 s2 M) : gs (FX84_walk_187 fN k87 s0 s1 s2 M) (GX84_walk_187 s0 s1 s2 M) (kX84_walk k87) (pX84_walk M) := by
  delta FX84_walk_187 BX84_walk_187
  refine gs_c n_s0 ?_
  refine gs_b (gX84_fault _ _ _ _ ⟨T.1, T.2⟩ n_s0 h.1) (fun K0 => ?_)
  exact gs_t (pX84_walk_t K0.2) (gX84_walk_203 k87 _ _ ⟨K0.1.1, K0.1.2⟩  )
noncomputable def GX84_walk_132 (a0 : Nat) (a3 : Int32) (M : FM) : (Nat × Int64 × Int32 × Int32 × Int32 × Int32 × FM) ⊕ (Int64 × FM) :=
  let r1 : Int64 × FM := GX84_fault a0 a3 (Int32.ofInt 1) M
  (.inr (r1.1, r1.2))
def HX84_walk_132 (a0 : Nat) (a3 : Int32) (M : FM) : Prop := (HX84_fault a0 a3 (Int32.ofInt 1) M ∧ True)
theorem gX84_walk_132 (k87 : Nat → Int64 → Int32 → Int32 → Int32 → Int32 → FM → Option (Int64 × FM)) (a0 : Nat) (a3 : Int32) (M : FM) (T : Ty M) (n_a0 : fm_is M 91 91 a0 = true) (h : HX84_walk_132 a0 a3 M) : gs (FX84_walk_132 fN k87 a0 a3 M) (GX84_walk_132 a0 a3 M) (kX84_walk k87) (pX84_walk M) := by
  delta FX84_walk_132 BX84_walk_132
  refine gs_c n_a0 ?_
  refine gs_b (gX84_fault _ _ _ _ ⟨T.1, T.2⟩ n_a0 h.1) (fun K0 => ?_)
  exact And.intro rfl (And.intro (And.intro K0.1.1 K0.1.2) K0.2)
noncomputable def GX84_walk_22 (a0 : Nat) (a1 : Int64) (a3 : Int32) (a4 : Int32) (s0 : Int32) (M : FM) : (Nat × Int64 × Int32 × Int32 × Int32 × Int32 × FM) ⊕ (Int64 × FM) :=
  let x1 : Int32 := ((Int32.ofInt 52) - ((Int32.ofInt 9) * s0))
  fi ((lg_cmp ((a1 <<< (x1.toInt64 &&& 63)) >>> (x1.toInt64 &&& 63)) a1) = 0) (
    let M2 : FM := fm_sI M 294 a0 0 (Int32.ofInt 0)
    let r3 : Int64 × FM := GX102_bits (M2.2.1 289 a0 0) (Int32.ofInt 0) (Int32.ofInt 44) M2
    let x4 : Int32 := (s0 - (Int32.ofInt 1))
    let r5 : Int32 × FM := GX84_step a0 r3.1 a1 x4 r3.2
    (.inl (a0, a1, a3, a4, x4, r5.1, r5.2))) (
    let r6 : Int64 × FM := GX84_fault a0 a3 (Int32.ofInt 1) M
    (.inr (r6.1, r6.2)))
def HX84_walk_22 (a0 : Nat) (a1 : Int64) (a3 : Int32) (a4 : Int32) (s0 : Int32) (M : FM) : Prop := let x1 : Int32 := ((Int32.ofInt 52) - ((Int32.ofInt 9) * s0)); (((lg_cmp ((a1 <<< (x1.toInt64 &&& 63)) >>> (x1.toInt64 &&& 63)) a1) = 0 → let M2 : FM := fm_sI M 294 a0 0 (Int32.ofInt 0); let r3 : Int64 × FM := GX102_bits (M2.2.1 289 a0 0) (Int32.ofInt 0) (Int32.ofInt 44) M2; let x4 : Int32 := (s0 - (Int32.ofInt 1)); (HX84_step a0 r3.1 a1 x4 r3.2 ∧ True)) ∧ (¬ ((lg_cmp ((a1 <<< (x1.toInt64 &&& 63)) >>> (x1.toInt64 &&& 63)) a1) = 0) → (HX84_fault a0 a3 (Int32.ofInt 1) M ∧ True)))
theorem gX84_walk_22 (k87 : Nat → Int64 → Int32 → Int32 → Int32 → Int32 → FM → Option (Int64 × FM)) (a0 : Nat) (a1 : Int64) (a3 : Int32) (a4 : Int32) (s0 : Int32) (M : FM) (T : Ty M) (n_a0 : fm_is M 91 91 a0 = true) (h : HX84_walk_22 a0 a1 a3 a4 s0 M) : gs (FX84_walk_22 fN k87 a0 a1 a3 a4 s0 M) (GX84_walk_22 a0 a1 a3 a4 s0 M) (kX84_walk k87) (pX84_walk M) := by
  delta FX84_walk_22 BX84_walk_22
  refine gs_fi (fun c0_0 => ?_) (fun c0_0 => ?_)
  · refine gs_c n_a0 ?_
    refine gs_c n_a0 ?_
    refine gs_b (gX102_bits _ _ _ _ ⟨T.1, (tyb_sI (f := 294) rfl T.2)⟩  ) (fun K1 => ?_)
    have f2 := (ext_is K1.2 (Nat.zero_lt_succ _) n_a0)
    refine gs_c f2 ?_
    have f4 := (ext_is K1.2 (Nat.zero_lt_succ _) n_a0)
    refine gs_b (gX84_step _ _ _ _ _ ⟨K1.1.1, K1.1.2⟩ f4 (h.1 c0_0).1) (fun K3 => ?_)
    exact And.intro rfl (And.intro (And.intro K3.1.1 K3.1.2) ((ext_dI (ext_tr K1.2 K3.2))))
  · refine gs_c n_a0 ?_
    refine gs_b (gX84_fault _ _ _ _ ⟨T.1, T.2⟩ n_a0 (h.2 c0_0).1) (fun K5 => ?_)
    exact And.intro rfl (And.intro (And.intro K5.1.1 K5.1.2) K5.2)
noncomputable def GX84_walk_0 (a0 : Nat) (a1 : Int64) (a3 : Int32) (a4 : Int32) (M : FM) : (Nat × Int64 × Int32 × Int32 × Int32 × Int32 × FM) ⊕ (Int64 × FM) :=
  let r1 : Int64 × FM := GX102_bits (M.2.1 289 a0 0) (Int32.ofInt 60) (Int32.ofInt 4) M
  fi ((lg_cmp r1.1 (Int64.ofInt 8)) = 0) (
    GX84_walk_22 a0 a1 a3 a4 (Int32.ofInt 3) r1.2) (
    GX84_walk_22 a0 a1 a3 a4 (Int32.ofInt 4) r1.2)
def HX84_walk_0 (a0 : Nat) (a1 : Int64) (a3 : Int32) (a4 : Int32) (M : FM) : Prop := let r1 : Int64 × FM := GX102_bits (M.2.1 289 a0 0) (Int32.ofInt 60) (Int32.ofInt 4) M; (((lg_cmp r1.1 (Int64.ofInt 8)) = 0 → HX84_walk_22 a0 a1 a3 a4 (Int32.ofInt 3) r1.2) ∧ (¬ ((lg_cmp r1.1 (Int64.ofInt 8)) = 0) → HX84_walk_22 a0 a1 a3 a4 (Int32.ofInt 4) r1.2))
theorem gX84_walk_0 (k87 : Nat → Int64 → Int32 → Int32 → Int32 → Int32 → FM → Option (Int64 × FM)) (a0 : Nat) (a1 : Int64) (a3 : Int32) (a4 : Int32) (M : FM) (T : Ty M) (n_a0 : fm_is M 91 91 a0 = true) (h : HX84_walk_0 a0 a1 a3 a4 M) : gs (FX84_walk_0 fN k87 a0 a1 a3 a4 M) (GX84_walk_0 a0 a1 a3 a4 M) (kX84_walk k87) (pX84_walk M) := by
  delta FX84_walk_0 BX84_walk_0
  refine gs_c n_a0 ?_
  refine gs_b (gX102_bits _ _ _ _ ⟨T.1, T.2⟩  ) (fun K0 => ?_)
  refine gs_fi (fun c1_0 => ?_) (fun c1_0 => ?_)
  · have f2 := (ext_is K0.2 (Nat.zero_lt_succ _) n_a0)
    exact gs_t (pX84_walk_t K0.2) (gX84_walk_22 k87 _ _ _ _ _ _ ⟨K0.1.1, K0.1.2⟩ f2 (h.1 c1_0))
  · have f3 := (ext_is K0.2 (Nat.zero_lt_succ _) n_a0)
    exact gs_t (pX84_walk_t K0.2) (gX84_walk_22 k87 _ _ _ _ _ _ ⟨K0.1.1, K0.1.2⟩ f3 (h.2 c1_0))
noncomputable def GX84_walk_87 (a0 : Nat) (a1 : Int64) (a3 : Int32) (a4 : Int32) (a9 : Int32) (a10 : Int32) (M : FM) : (Nat × Int64 × Int32 × Int32 × Int32 × Int32 × FM) ⊕ (Int64 × FM) :=
  fi (a10 = 0) (
    fi (a9 = 0) (
      GX84_walk_132 a0 a3 M) (
      let r1 : Int32 × FM := GX102_has (M.2.1 293 a0 0) (Int32.ofInt 4) M
      fi (r1.1 = 0) (
        let r2 : Int32 × FM := GX102_has (r1.2.2.1 293 a0 0) (Int32.ofInt 6) r1.2
        fi (r2.1 = 0) (
          let r3 : Int32 × FM := GX102_has (r2.2.2.1 293 a0 0) (Int32.ofInt 7) r2.2
          fi (r3.1 = 0) (
            let r4 : Int64 × FM := GX102_bits (r3.2.2.1 293 a0 0) (Int32.ofInt 10) (Int32.ofInt 44) r3.2
            let x5 : Int32 := a9 + (Int32.ofInt (-1))
            let r6 : Int32 × FM := GX84_step a0 r4.1 a1 x5 r4.2
            (.inl (a0, a1, a3, a4, x5, r6.1, r6.2))) (
            GX84_walk_132 a0 a3 r3.2)) (
          GX84_walk_132 a0 a3 r2.2)) (
        GX84_walk_132 a0 a3 r1.2))) (
    fi (0 ≤ a10) (
      let r7 : Int64 × FM := GX84_last a0 a1 a3 a4 a9 M
      GX84_walk_203 r7.1 r7.2) (
      fi (a10 = (Int32.ofInt (-1))) (
        GX84_walk_187 a0 a3 (Int32.ofInt 0) M) (
        GX84_walk_187 a0 a3 (Int32.ofInt 1) M)))
def HX84_walk_87 (a0 : Nat) (a1 : Int64) (a3 : Int32) (a4 : Int32) (a9 : Int32) (a10 : Int32) (M : FM) : Prop := ((a10 = 0 → ((a9 = 0 → HX84_walk_132 a0 a3 M) ∧ (¬ (a9 = 0) → let r1 : Int32 × FM := GX102_has (M.2.1 293 a0 0) (Int32.ofInt 4) M; ((r1.1 = 0 → let r2 : Int32 × FM := GX102_has (r1.2.2.1 293 a0 0) (Int32.ofInt 6) r1.2; ((r2.1 = 0 → let r3 : Int32 × FM := GX102_has (r2.2.2.1 293 a0 0) (Int32.ofInt 7) r2.2; ((r3.1 = 0 → let r4 : Int64 × FM := GX102_bits (r3.2.2.1 293 a0 0) (Int32.ofInt 10) (Int32.ofInt 44) r3.2; let x5 : Int32 := a9 + (Int32.ofInt (-1)); (HX84_step a0 r4.1 a1 x5 r4.2 ∧ True)) ∧ (¬ (r3.1 = 0) → HX84_walk_132 a0 a3 r3.2))) ∧ (¬ (r2.1 = 0) → HX84_walk_132 a0 a3 r2.2))) ∧ (¬ (r1.1 = 0) → HX84_walk_132 a0 a3 r1.2))))) ∧ (¬ (a10 = 0) → ((0 ≤ a10 → (HX84_last a0 a1 a3 a4 a9 M ∧ True)) ∧ (¬ (0 ≤ a10) → ((a10 = (Int32.ofInt (-1)) → HX84_walk_187 a0 a3 (Int32.ofInt 0) M) ∧ (¬ (a10 = (Int32.ofInt (-1))) → HX84_walk_187 a0 a3 (Int32.ofInt 1) M))))))
theorem gX84_walk_87 (k87 : Nat → Int64 → Int32 → Int32 → Int32 → Int32 → FM → Option (Int64 × FM)) (a0 : Nat) (a1 : Int64) (a3 : Int32) (a4 : Int32) (a9 : Int32) (a10 : Int32) (M : FM) (T : Ty M) (n_a0 : fm_is M 91 91 a0 = true) (h : HX84_walk_87 a0 a1 a3 a4 a9 a10 M) : gs (FX84_walk_87 fN k87 a0 a1 a3 a4 a9 a10 M) (GX84_walk_87 a0 a1 a3 a4 a9 a10 M) (kX84_walk k87) (pX84_walk M) := by
  delta FX84_walk_87 BX84_walk_87
  refine gs_fi (fun c0_0 => ?_) (fun c0_0 => ?_)
  · refine gs_fi (fun c1_0 => ?_) (fun c1_0 => ?_)
    · exact gs_t (pX84_walk_t (ext_r _)) (gX84_walk_132 k87 _ _ _ ⟨T.1, T.2⟩ n_a0 ((h.1 c0_0).1 c1_0))
    · refine gs_c n_a0 ?_
      refine gs_b (gX102_has _ _ _ ⟨T.1, T.2⟩  ) (fun K2 => ?_)
      refine gs_fi (fun c3_0 => ?_) (fun c3_0 => ?_)
      · have f4 := (ext_is K2.2.1 (Nat.zero_lt_succ _) n_a0)
        refine gs_c f4 ?_
        refine gs_b (gX102_has _ _ _ ⟨K2.1.1, K2.1.2⟩  ) (fun K5 => ?_)
        refine gs_fi (fun c6_0 => ?_) (fun c6_0 => ?_)
        · have f7 := (ext_is K5.2.1 (Nat.zero_lt_succ _) (ext_is K2.2.1 (Nat.zero_lt_succ _) n_a0))
          refine gs_c f7 ?_
          refine gs_b (gX102_has _ _ _ ⟨K5.1.1, K5.1.2⟩  ) (fun K8 => ?_)
          refine gs_fi (fun c9_0 => ?_) (fun c9_0 => ?_)
          · have f10 := (ext_is K8.2.1 (Nat.zero_lt_succ _) (ext_is K5.2.1 (Nat.zero_lt_succ _) (ext_is K2.2.1 (Nat.zero_lt_succ _) n_a0)))
            refine gs_c f10 ?_
            refine gs_b (gX102_bits _ _ _ _ ⟨K8.1.1, K8.1.2⟩  ) (fun K11 => ?_)
            have f12 := (ext_is K11.2 (Nat.zero_lt_succ _) (ext_is K8.2.1 (Nat.zero_lt_succ _) (ext_is K5.2.1 (Nat.zero_lt_succ _) (ext_is K2.2.1 (Nat.zero_lt_succ _) n_a0))))
            refine gs_c f12 ?_
            have f14 := (ext_is K11.2 (Nat.zero_lt_succ _) (ext_is K8.2.1 (Nat.zero_lt_succ _) (ext_is K5.2.1 (Nat.zero_lt_succ _) (ext_is K2.2.1 (Nat.zero_lt_succ _) n_a0))))
            refine gs_b (gX84_step _ _ _ _ _ ⟨K11.1.1, K11.1.2⟩ f14 (((((h.1 c0_0).2 c1_0).1 c3_0).1 c6_0).1 c9_0).1) (fun K13 => ?_)
            exact And.intro rfl (And.intro (And.intro K13.1.1 K13.1.2) ((ext_tr K2.2.1 (ext_tr K5.2.1 (ext_tr K8.2.1 (ext_tr K11.2 K13.2))))))
          · have f15 := (ext_is K8.2.1 (Nat.zero_lt_succ _) (ext_is K5.2.1 (Nat.zero_lt_succ _) (ext_is K2.2.1 (Nat.zero_lt_succ _) n_a0)))
            exact gs_t (pX84_walk_t (ext_tr K2.2.1 (ext_tr K5.2.1 K8.2.1))) (gX84_walk_132 k87 _ _ _ ⟨K8.1.1, K8.1.2⟩ f15 (((((h.1 c0_0).2 c1_0).1 c3_0).1 c6_0).2 c9_0))
        · have f16 := (ext_is K5.2.1 (Nat.zero_lt_succ _) (ext_is K2.2.1 (Nat.zero_lt_succ _) n_a0))
          exact gs_t (pX84_walk_t (ext_tr K2.2.1 K5.2.1)) (gX84_walk_132 k87 _ _ _ ⟨K5.1.1, K5.1.2⟩ f16 ((((h.1 c0_0).2 c1_0).1 c3_0).2 c6_0))
      · have f17 := (ext_is K2.2.1 (Nat.zero_lt_succ _) n_a0)
        exact gs_t (pX84_walk_t K2.2.1) (gX84_walk_132 k87 _ _ _ ⟨K2.1.1, K2.1.2⟩ f17 (((h.1 c0_0).2 c1_0).2 c3_0))
  · refine gs_fi (fun c18_0 => ?_) (fun c18_0 => ?_)
    · refine gs_c n_a0 ?_
      refine gs_b (gX84_last _ _ _ _ _ _ ⟨T.1, T.2⟩ n_a0 ((h.2 c0_0).1 c18_0).1) (fun K19 => ?_)
      exact gs_t (pX84_walk_t K19.2) (gX84_walk_203 k87 _ _ ⟨K19.1.1, K19.1.2⟩  )
    · refine gs_fi (fun c20_0 => ?_) (fun c20_0 => ?_)
      · exact gs_t (pX84_walk_t (ext_r _)) (gX84_walk_187 k87 _ _ _ _ ⟨T.1, T.2⟩ n_a0 (((h.2 c0_0).2 c18_0).1 c20_0))
      · exact gs_t (pX84_walk_t (ext_r _)) (gX84_walk_187 k87 _ _ _ _ ⟨T.1, T.2⟩ n_a0 (((h.2 c0_0).2 c18_0).2 c20_0))
noncomputable def GX84_walk (a0 : Nat) (a1 : Int64) (a2 : Int32) (a3 : Int32) (M : FM) : Int64 × FM := (FX84_walk fN a0 a1 a2 a3 M).getD (0, M)
def HX84_walk (a0 : Nat) (a1 : Int64) (a2 : Int32) (a3 : Int32) (M : FM) : Prop := ∃ r, FX84_walk fN a0 a1 a2 a3 M = some r ∧ OkR M r
theorem gX84_walk (a0 : Nat) (a1 : Int64) (a2 : Int32) (a3 : Int32) (M : FM) (h : HX84_walk a0 a1 a2 a3 M) : gd (FX84_walk fN a0 a1 a2 a3 M) (GX84_walk a0 a1 a2 a3 M) (OkR M) := gd_op h
def kX84_translate (k267 : Nat → Nat → Int64 → Int32 → FM → Option (Int64 × FM)) : (Nat × Nat × Int64 × Int32 × FM) ⊕ (Int64 × FM) → Option (Int64 × FM)
  | .inl (v0, v1, v2, v3, M') => k267 v0 v1 v2 v3 M'
  | .inr (r) => some r
def pX84_translate (M : FM) : (Nat × Nat × Int64 × Int32 × FM) ⊕ (Int64 × FM) → Prop
  | .inl (_, _, _, _, M') => OkV M M'
  | .inr (r) => OkR M r
theorem pX84_translate_t {M M1 : FM} (e : Ext M M1) : ∀ y, pX84_translate M1 y → pX84_translate M y
  | .inl (_, _, _, _, _), h => ⟨h.1, ext_tr e h.2⟩
  | .inr (r), h => ⟨h.1, ext_tr e h.2⟩
noncomputable def GX84_translate_321 (a9 : Int64) (M : FM) : (Nat × Nat × Int64 × Int32 × FM) ⊕ (Int64 × FM) :=
  (.inr (a9, M))
theorem gX84_translate_321 (k267 : Nat → Nat → Int64 → Int32 → FM → Option (Int64 × FM)) (a9 : Int64) (M : FM) (T : Ty M) : gs (FX84_translate_321 fN k267 a9 M) (GX84_translate_321 a9 M) (kX84_translate k267) (pX84_translate M) := by
  delta FX84_translate_321 BX84_translate_321
  exact And.intro rfl (And.intro (And.intro T.1 T.2) ((ext_r _)))
noncomputable def GX84_translate_179 (a0 : Nat) (a1 : Int64) (a3 : Int32) (a4 : Int32) (a5 : Int64) (a7 : Nat) (a9 : Int64) (s0 : Nat) (s1 : Int32) (M : FM) : (Nat × Nat × Int64 × Int32 × FM) ⊕ (Int64 × FM) :=
  let M1 : FM := fm_sI M 269 s0 0 s1
  fi ((M1.1 269 a7 0) = 0) (
    GX84_translate_321 a9 M1) (
    let M2 : FM := fm_sL M1 270 a7 0 a5
    let M3 : FM := fm_sI M2 271 a7 0 a3
    let M4 : FM := fm_sI M3 272 a7 0 a4
    let M5 : FM := fm_sL M4 273 a7 0 (M4.2.1 289 a0 0)
    let M6 : FM := fm_sI M5 274 a7 0 (M5.1 290 a0 0)
    let x7 : Nat := (M6.2.2 288 a0 0)
    let M8 : FM := fm_sI M6 275 a7 0 (M6.1 285 x7 0)
    let r9 : Int64 × FM := GX102_bits a1 (Int32.ofInt 0) (Int32.ofInt 12) M8
    let M10 : FM := fm_sL r9.2 276 a7 0 (a9 - r9.1)
    let M11 : FM := fm_sI M10 277 a7 0 (M10.1 294 a0 0)
    (.inl (a0, a7, a9, (Int32.ofInt 0), M11)))
theorem gX84_translate_179 (k267 : Nat → Nat → Int64 → Int32 → FM → Option (Int64 × FM)) (a0 : Nat) (a1 : Int64) (a3 : Int32) (a4 : Int32) (a5 : Int64) (a7 : Nat) (a9 : Int64) (s0 : Nat) (s1 : Int32) (M : FM) (T : Ty M) (n_s0 : fm_is M 88 88 s0 = true) (z_s1 : s1 = 0 ∨ s1 = 1) (n_a7 : fm_is M 88 88 a7 = true) (n_a0 : fm_is M 91 91 a0 = true) : gs (FX84_translate_179 fN k267 a0 a1 a3 a4 a5 a7 a9 s0 s1 M) (GX84_translate_179 a0 a1 a3 a4 a5 a7 a9 s0 s1 M) (kX84_translate k267) (pX84_translate M) := by
  delta FX84_translate_179 BX84_translate_179
  refine gs_c n_s0 ?_
  refine gs_c z_s1 ?_
  refine gs_c n_a7 ?_
  refine gs_fi (fun c0_0 => ?_) (fun c0_0 => ?_)
  · exact gs_t (pX84_translate_t (ext_dI (ext_r _))) (gX84_translate_321 k267 _ _ ⟨T.1, (tyb_sIb (f := 269) rfl T.2 z_s1)⟩  )
  · refine gs_c n_a7 ?_
    refine gs_c n_a7 ?_
    refine gs_c n_a7 ?_
    refine gs_c n_a0 ?_
    refine gs_c n_a7 ?_
    refine gs_c n_a0 ?_
    refine gs_c n_a7 ?_
    refine gs_c n_a0 ?_
    have f1 := (tN_288 T.1 n_a0)
    refine gs_c f1 ?_
    refine gs_c n_a7 ?_
    refine gs_b (gX102_bits _ _ _ _ ⟨T.1, (tyb_sI (f := 275) rfl (tyb_sI (f := 274) rfl (tyb_sI (f := 272) rfl (tyb_sI (f := 271) rfl (tyb_sIb (f := 269) rfl T.2 z_s1)))))⟩  ) (fun K2 => ?_)
    have f3 := (ext_is K2.2 (Nat.zero_lt_succ _) n_a7)
    refine gs_c f3 ?_
    have f4 := (ext_is K2.2 (Nat.zero_lt_succ _) n_a0)
    refine gs_c f4 ?_
    have f5 := (ext_is K2.2 (Nat.zero_lt_succ _) n_a7)
    refine gs_c f5 ?_
    exact And.intro rfl (And.intro (And.intro K2.1.1 (tyb_sI (f := 277) rfl K2.1.2)) ((ext_dI (ext_dL (ext_dI (ext_dI (ext_dL (ext_dI (ext_dI (ext_tr K2.2 (ext_dL (ext_dI (ext_r _)))))))))))))
noncomputable def GX84_translate_155 (a0 : Nat) (a1 : Int64) (a3 : Int32) (a4 : Int32) (a5 : Int64) (a7 : Nat) (M : FM) : (Nat × Nat × Int64 × Int32 × FM) ⊕ (Int64 × FM) :=
  let r1 : Int64 × FM := GX84_walk a0 a1 a3 a4 M
  fi ((lg_cmp r1.1 (Int64.ofInt 0)) < 0) (
    GX84_translate_179 a0 a1 a3 a4 a5 a7 r1.1 a7 (Int32.ofInt 0) r1.2) (
    GX84_translate_179 a0 a1 a3 a4 a5 a7 r1.1 a7 (Int32.ofInt 1) r1.2)
def HX84_translate_155 (a0 : Nat) (a1 : Int64) (a3 : Int32) (a4 : Int32) (a5 : Int64) (a7 : Nat) (M : FM) : Prop := (HX84_walk a0 a1 a3 a4 M ∧ True)
theorem gX84_translate_155 (k267 : Nat → Nat → Int64 → Int32 → FM → Option (Int64 × FM)) (a0 : Nat) (a1 : Int64) (a3 : Int32) (a4 : Int32) (a5 : Int64) (a7 : Nat) (M : FM) (T : Ty M) (n_a0 : fm_is M 91 91 a0 = true) (n_a7 : fm_is M 88 88 a7 = true) (h : HX84_translate_155 a0 a1 a3 a4 a5 a7 M) : gs (FX84_translate_155 fN k267 a0 a1 a3 a4 a5 a7 M) (GX84_translate_155 a0 a1 a3 a4 a5 a7 M) (kX84_translate k267) (pX84_translate M) := by
  delta FX84_translate_155 BX84_translate_155
  refine gs_c n_a0 ?_
  refine gs_b (gX84_walk _ _ _ _ _ h.1) (fun K0 => ?_)
  refine gs_fi (fun c1_0 => ?_) (fun c1_0 => ?_)
  · have f2 := (ext_is K0.2 (Nat.zero_lt_succ _) n_a7)
    have f3 := (ext_is K0.2 (Nat.zero_lt_succ _) n_a7)
    have f4 := (ext_is K0.2 (Nat.zero_lt_succ _) n_a0)
    exact gs_t (pX84_translate_t K0.2) (gX84_translate_179 k267 _ _ _ _ _ _ _ _ _ _ ⟨K0.1.1, K0.1.2⟩ f2 fz_0 f3 f4 )
  · have f5 := (ext_is K0.2 (Nat.zero_lt_succ _) n_a7)
    have f6 := (ext_is K0.2 (Nat.zero_lt_succ _) n_a7)
    have f7 := (ext_is K0.2 (Nat.zero_lt_succ _) n_a0)
    exact gs_t (pX84_translate_t K0.2) (gX84_translate_179 k267 _ _ _ _ _ _ _ _ _ _ ⟨K0.1.1, K0.1.2⟩ f5 fz_1 f6 f7 )
noncomputable def GX84_translate_122 (a0 : Nat) (a1 : Int64) (a3 : Int32) (a4 : Int32) (a5 : Int64) (a7 : Nat) (s0 : Int32) (M : FM) : (Nat × Nat × Int64 × Int32 × FM) ⊕ (Int64 × FM) :=
  fi (s0 = 0) (
    GX84_translate_155 a0 a1 a3 a4 a5 a7 M) (
    let r1 : Int32 × FM := GX88_holds a7 (M.2.2 287 a0 0) M
    fi (r1.1 = 0) (
      GX84_translate_155 a0 a1 a3 a4 a5 a7 r1.2) (
      let r2 : Int64 × FM := GX102_bits a1 (Int32.ofInt 0) (Int32.ofInt 12) r1.2
      (.inr (((r1.2.2.1 276 a7 0) ||| r2.1), r2.2))))
def HX84_translate_122 (a0 : Nat) (a1 : Int64) (a3 : Int32) (a4 : Int32) (a5 : Int64) (a7 : Nat) (s0 : Int32) (M : FM) : Prop := ((s0 = 0 → HX84_translate_155 a0 a1 a3 a4 a5 a7 M) ∧ (¬ (s0 = 0) → (HX88_holds a7 (M.2.2 287 a0 0) M ∧ let r1 : Int32 × FM := GX88_holds a7 (M.2.2 287 a0 0) M; ((r1.1 = 0 → HX84_translate_155 a0 a1 a3 a4 a5 a7 r1.2) ∧ (¬ (r1.1 = 0) → True)))))
theorem gX84_translate_122 (k267 : Nat → Nat → Int64 → Int32 → FM → Option (Int64 × FM)) (a0 : Nat) (a1 : Int64) (a3 : Int32) (a4 : Int32) (a5 : Int64) (a7 : Nat) (s0 : Int32) (M : FM) (T : Ty M) (n_a0 : fm_is M 91 91 a0 = true) (n_a7 : fm_is M 88 88 a7 = true) (h : HX84_translate_122 a0 a1 a3 a4 a5 a7 s0 M) : gs (FX84_translate_122 fN k267 a0 a1 a3 a4 a5 a7 s0 M) (GX84_translate_122 a0 a1 a3 a4 a5 a7 s0 M) (kX84_translate k267) (pX84_translate M) := by
  delta FX84_translate_122 BX84_translate_122
  refine gs_fi (fun c0_0 => ?_) (fun c0_0 => ?_)
  · exact gs_t (pX84_translate_t (ext_r _)) (gX84_translate_155 k267 _ _ _ _ _ _ _ ⟨T.1, T.2⟩ n_a0 n_a7 (h.1 c0_0))
  · refine gs_c n_a0 ?_
    refine gs_c n_a7 ?_
    refine gs_b (gX88_holds _ _ _ (h.2 c0_0).1) (fun K1 => ?_)
    refine gs_fi (fun c2_0 => ?_) (fun c2_0 => ?_)
    · have f3 := (ext_is K1.2.1 (Nat.zero_lt_succ _) n_a0)
      have f4 := (ext_is K1.2.1 (Nat.zero_lt_succ _) n_a7)
      exact gs_t (pX84_translate_t K1.2.1) (gX84_translate_155 k267 _ _ _ _ _ _ _ ⟨K1.1.1, K1.1.2⟩ f3 f4 ((h.2 c0_0).2.1 c2_0))
    · have f5 := (ext_is K1.2.1 (Nat.zero_lt_succ _) n_a7)
      refine gs_c f5 ?_
      refine gs_b (gX102_bits _ _ _ _ ⟨K1.1.1, K1.1.2⟩  ) (fun K6 => ?_)
      exact And.intro rfl (And.intro (And.intro K6.1.1 K6.1.2) ((ext_tr K1.2.1 K6.2)))
noncomputable def GX84_translate_121 (a0 : Nat) (a1 : Int64) (a3 : Int32) (a4 : Int32) (a5 : Int64) (a7 : Nat) (M : FM) : (Nat × Nat × Int64 × Int32 × FM) ⊕ (Int64 × FM) :=
  GX84_translate_122 a0 a1 a3 a4 a5 a7 (Int32.ofInt 0) M
def HX84_translate_121 (a0 : Nat) (a1 : Int64) (a3 : Int32) (a4 : Int32) (a5 : Int64) (a7 : Nat) (M : FM) : Prop := HX84_translate_122 a0 a1 a3 a4 a5 a7 (Int32.ofInt 0) M
theorem gX84_translate_121 (k267 : Nat → Nat → Int64 → Int32 → FM → Option (Int64 × FM)) (a0 : Nat) (a1 : Int64) (a3 : Int32) (a4 : Int32) (a5 : Int64) (a7 : Nat) (M : FM) (T : Ty M) (n_a0 : fm_is M 91 91 a0 = true) (n_a7 : fm_is M 88 88 a7 = true) (h : HX84_translate_121 a0 a1 a3 a4 a5 a7 M) : gs (FX84_translate_121 fN k267 a0 a1 a3 a4 a5 a7 M) (GX84_translate_121 a0 a1 a3 a4 a5 a7 M) (kX84_translate k267) (pX84_translate M) := by
  delta FX84_translate_121 BX84_translate_121
  exact gs_t (pX84_translate_t (ext_r _)) (gX84_translate_122 k267 _ _ _ _ _ _ _ _ ⟨T.1, T.2⟩ n_a0 n_a7 h)
noncomputable def GX84_translate_0 (a0 : Nat) (a1 : Int64) (a3 : Int32) (a4 : Int32) (M : FM) : (Nat × Nat × Int64 × Int32 × FM) ⊕ (Int64 × FM) :=
  let x1 : Int64 := (a1 >>> ((Int32.ofInt 12).toInt64 &&& 63))
  let x2 : Int32 := (((((x1 ^^^ (x1 >>> ((Int32.ofInt 6).toInt64 &&& 63))) * (Int64.ofInt 5)) + (a3 * (Int32.ofInt 3)).toInt64) + a4.toInt64) &&& (Int64.ofInt 63)).toInt32
  let x3 : Nat := (M.2.2 291 a0 0)
  let x4 : Nat := (M.2.2 3 x3 x2.toNatClampNeg)
  fi ((M.1 269 x4 0) = 0) (
    GX84_translate_121 a0 a1 a3 a4 x1 x4 M) (
    fi ((lg_cmp (M.2.1 270 x4 0) x1) = 0) (
      fi ((M.1 271 x4 0) = a3) (
        fi ((M.1 272 x4 0) = a4) (
          fi ((lg_cmp (M.2.1 273 x4 0) (M.2.1 289 a0 0)) = 0) (
            fi ((M.1 274 x4 0) = (M.1 290 a0 0)) (
              let x5 : Nat := (M.2.2 288 a0 0)
              fi ((M.1 275 x4 0) = (M.1 285 x5 0)) (
                GX84_translate_122 a0 a1 a3 a4 x1 x4 (Int32.ofInt 1) M) (
                GX84_translate_121 a0 a1 a3 a4 x1 x4 M)) (
              GX84_translate_121 a0 a1 a3 a4 x1 x4 M)) (
            GX84_translate_121 a0 a1 a3 a4 x1 x4 M)) (
          GX84_translate_121 a0 a1 a3 a4 x1 x4 M)) (
        GX84_translate_121 a0 a1 a3 a4 x1 x4 M)) (
      GX84_translate_121 a0 a1 a3 a4 x1 x4 M))
def HX84_translate_0 (a0 : Nat) (a1 : Int64) (a3 : Int32) (a4 : Int32) (M : FM) : Prop := let x1 : Int64 := (a1 >>> ((Int32.ofInt 12).toInt64 &&& 63)); let x2 : Int32 := (((((x1 ^^^ (x1 >>> ((Int32.ofInt 6).toInt64 &&& 63))) * (Int64.ofInt 5)) + (a3 * (Int32.ofInt 3)).toInt64) + a4.toInt64) &&& (Int64.ofInt 63)).toInt32; let x3 : Nat := (M.2.2 291 a0 0); (fm_in M x3 x2 = true ∧ let x4 : Nat := (M.2.2 3 x3 x2.toNatClampNeg); (((M.1 269 x4 0) = 0 → HX84_translate_121 a0 a1 a3 a4 x1 x4 M) ∧ (¬ ((M.1 269 x4 0) = 0) → (((lg_cmp (M.2.1 270 x4 0) x1) = 0 → (((M.1 271 x4 0) = a3 → (((M.1 272 x4 0) = a4 → (((lg_cmp (M.2.1 273 x4 0) (M.2.1 289 a0 0)) = 0 → (((M.1 274 x4 0) = (M.1 290 a0 0) → let x5 : Nat := (M.2.2 288 a0 0); (((M.1 275 x4 0) = (M.1 285 x5 0) → HX84_translate_122 a0 a1 a3 a4 x1 x4 (Int32.ofInt 1) M) ∧ (¬ ((M.1 275 x4 0) = (M.1 285 x5 0)) → HX84_translate_121 a0 a1 a3 a4 x1 x4 M))) ∧ (¬ ((M.1 274 x4 0) = (M.1 290 a0 0)) → HX84_translate_121 a0 a1 a3 a4 x1 x4 M))) ∧ (¬ ((lg_cmp (M.2.1 273 x4 0) (M.2.1 289 a0 0)) = 0) → HX84_translate_121 a0 a1 a3 a4 x1 x4 M))) ∧ (¬ ((M.1 272 x4 0) = a4) → HX84_translate_121 a0 a1 a3 a4 x1 x4 M))) ∧ (¬ ((M.1 271 x4 0) = a3) → HX84_translate_121 a0 a1 a3 a4 x1 x4 M))) ∧ (¬ ((lg_cmp (M.2.1 270 x4 0) x1) = 0) → HX84_translate_121 a0 a1 a3 a4 x1 x4 M)))))
theorem gX84_translate_0 (k267 : Nat → Nat → Int64 → Int32 → FM → Option (Int64 × FM)) (a0 : Nat) (a1 : Int64) (a3 : Int32) (a4 : Int32) (M : FM) (T : Ty M) (n_a0 : fm_is M 91 91 a0 = true) (h : HX84_translate_0 a0 a1 a3 a4 M) : gs (FX84_translate_0 fN k267 a0 a1 a3 a4 M) (GX84_translate_0 a0 a1 a3 a4 M) (kX84_translate k267) (pX84_translate M) := by
  delta FX84_translate_0 BX84_translate_0
  refine gs_c n_a0 ?_
  have f23 := (fm_w (lo' := 910) (hi' := 990) rfl rfl (tN_291 T.1 n_a0))
  refine gs_c ⟨f23, h.1⟩ ?_
  have f0 := (tE_926 T.1 (tN_291 T.1 n_a0) h.1)
  refine gs_c f0 ?_
  refine gs_fi (fun c1_0 => ?_) (fun c1_0 => ?_)
  · have f2 := (tE_926 T.1 (tN_291 T.1 n_a0) h.1)
    exact gs_t (pX84_translate_t (ext_r _)) (gX84_translate_121 k267 _ _ _ _ _ _ _ ⟨T.1, T.2⟩ n_a0 f2 (h.2.1 c1_0))
  · have f3 := (tE_926 T.1 (tN_291 T.1 n_a0) h.1)
    refine gs_c f3 ?_
    refine gs_fi (fun c4_0 => ?_) (fun c4_0 => ?_)
    · have f5 := (tE_926 T.1 (tN_291 T.1 n_a0) h.1)
      refine gs_c f5 ?_
      refine gs_fi (fun c6_0 => ?_) (fun c6_0 => ?_)
      · have f7 := (tE_926 T.1 (tN_291 T.1 n_a0) h.1)
        refine gs_c f7 ?_
        refine gs_fi (fun c8_0 => ?_) (fun c8_0 => ?_)
        · have f9 := (tE_926 T.1 (tN_291 T.1 n_a0) h.1)
          refine gs_c f9 ?_
          refine gs_c n_a0 ?_
          refine gs_fi (fun c10_0 => ?_) (fun c10_0 => ?_)
          · have f11 := (tE_926 T.1 (tN_291 T.1 n_a0) h.1)
            refine gs_c f11 ?_
            refine gs_c n_a0 ?_
            refine gs_fi (fun c12_0 => ?_) (fun c12_0 => ?_)
            · have f13 := (tE_926 T.1 (tN_291 T.1 n_a0) h.1)
              refine gs_c f13 ?_
              refine gs_c n_a0 ?_
              have f14 := (tN_288 T.1 n_a0)
              refine gs_c f14 ?_
              refine gs_fi (fun c15_0 => ?_) (fun c15_0 => ?_)
              · have f16 := (tE_926 T.1 (tN_291 T.1 n_a0) h.1)
                exact gs_t (pX84_translate_t (ext_r _)) (gX84_translate_122 k267 _ _ _ _ _ _ _ _ ⟨T.1, T.2⟩ n_a0 f16 (((((((h.2.2 c1_0).1 c4_0).1 c6_0).1 c8_0).1 c10_0).1 c12_0).1 c15_0))
              · have f17 := (tE_926 T.1 (tN_291 T.1 n_a0) h.1)
                exact gs_t (pX84_translate_t (ext_r _)) (gX84_translate_121 k267 _ _ _ _ _ _ _ ⟨T.1, T.2⟩ n_a0 f17 (((((((h.2.2 c1_0).1 c4_0).1 c6_0).1 c8_0).1 c10_0).1 c12_0).2 c15_0))
            · have f18 := (tE_926 T.1 (tN_291 T.1 n_a0) h.1)
              exact gs_t (pX84_translate_t (ext_r _)) (gX84_translate_121 k267 _ _ _ _ _ _ _ ⟨T.1, T.2⟩ n_a0 f18 ((((((h.2.2 c1_0).1 c4_0).1 c6_0).1 c8_0).1 c10_0).2 c12_0))
          · have f19 := (tE_926 T.1 (tN_291 T.1 n_a0) h.1)
            exact gs_t (pX84_translate_t (ext_r _)) (gX84_translate_121 k267 _ _ _ _ _ _ _ ⟨T.1, T.2⟩ n_a0 f19 (((((h.2.2 c1_0).1 c4_0).1 c6_0).1 c8_0).2 c10_0))
        · have f20 := (tE_926 T.1 (tN_291 T.1 n_a0) h.1)
          exact gs_t (pX84_translate_t (ext_r _)) (gX84_translate_121 k267 _ _ _ _ _ _ _ ⟨T.1, T.2⟩ n_a0 f20 ((((h.2.2 c1_0).1 c4_0).1 c6_0).2 c8_0))
      · have f21 := (tE_926 T.1 (tN_291 T.1 n_a0) h.1)
        exact gs_t (pX84_translate_t (ext_r _)) (gX84_translate_121 k267 _ _ _ _ _ _ _ ⟨T.1, T.2⟩ n_a0 f21 (((h.2.2 c1_0).1 c4_0).2 c6_0))
    · have f22 := (tE_926 T.1 (tN_291 T.1 n_a0) h.1)
      exact gs_t (pX84_translate_t (ext_r _)) (gX84_translate_121 k267 _ _ _ _ _ _ _ ⟨T.1, T.2⟩ n_a0 f22 ((h.2.2 c1_0).2 c4_0))
noncomputable def GX84_translate_267 (a0 : Nat) (a7 : Nat) (a9 : Int64) (a11 : Int32) (M : FM) : (Nat × Nat × Int64 × Int32 × FM) ⊕ (Int64 × FM) :=
  fi ((M.1 294 a0 0) ≤ a11) (
    GX84_translate_321 a9 M) (
    let x1 : Nat := (M.2.2 295 a0 0)
    let x2 : Nat := (M.2.2 278 a7 0)
    let M3 : FM := fm_sL M 3 x2 a11.toNatClampNeg (M.2.1 3 x1 a11.toNatClampNeg)
    let x4 : Nat := (M3.2.2 295 a0 0)
    let x5 : Nat := (M3.2.2 287 a0 0)
    let r6 : Int64 × FM := GX85_writes x5 (M3.2.1 3 x4 a11.toNatClampNeg) M3
    let x7 : Nat := (M3.2.2 279 a7 0)
    let M8 : FM := fm_sL r6.2 3 x7 a11.toNatClampNeg r6.1
    let x9 : Int32 := a11 + (Int32.ofInt 1)
    (.inl (a0, a7, a9, x9, M8)))
def HX84_translate_267 (a0 : Nat) (a7 : Nat) (a9 : Int64) (a11 : Int32) (M : FM) : Prop := (((M.1 294 a0 0) ≤ a11 → True) ∧ (¬ ((M.1 294 a0 0) ≤ a11) → let x1 : Nat := (M.2.2 295 a0 0); (fm_in M x1 a11 = true ∧ let x2 : Nat := (M.2.2 278 a7 0); (fm_in M x2 a11 = true ∧ let M3 : FM := fm_sL M 3 x2 a11.toNatClampNeg (M.2.1 3 x1 a11.toNatClampNeg); let x4 : Nat := (M3.2.2 295 a0 0); (fm_in M3 x4 a11 = true ∧ let x5 : Nat := (M3.2.2 287 a0 0); (HX85_writes x5 (M3.2.1 3 x4 a11.toNatClampNeg) M3 ∧ let r6 : Int64 × FM := GX85_writes x5 (M3.2.1 3 x4 a11.toNatClampNeg) M3; let x7 : Nat := (M3.2.2 279 a7 0); (fm_in r6.2 x7 a11 = true ∧ True)))))))
theorem gX84_translate_267 (k267 : Nat → Nat → Int64 → Int32 → FM → Option (Int64 × FM)) (a0 : Nat) (a7 : Nat) (a9 : Int64) (a11 : Int32) (M : FM) (T : Ty M) (n_a0 : fm_is M 91 91 a0 = true) (n_a7 : fm_is M 88 88 a7 = true) (h : HX84_translate_267 a0 a7 a9 a11 M) : gs (FX84_translate_267 fN k267 a0 a7 a9 a11 M) (GX84_translate_267 a0 a7 a9 a11 M) (kX84_translate k267) (pX84_translate M) := by
  delta FX84_translate_267 BX84_translate_267
  refine gs_c n_a0 ?_
  refine gs_fi (fun c0_0 => ?_) (fun c0_0 => ?_)
  · exact gs_t (pX84_translate_t (ext_r _)) (gX84_translate_321 k267 _ _ ⟨T.1, T.2⟩  )
  · refine gs_c n_a7 ?_
    refine gs_c n_a0 ?_
    have f6 := (tN_295 T.1 n_a0)
    refine gs_c ⟨f6, (h.2 c0_0).1⟩ ?_
    have f1 := (tN_278 T.1 n_a7)
    refine gs_c ⟨f1, (h.2 c0_0).2.1⟩ ?_
    refine gs_c n_a7 ?_
    refine gs_c n_a0 ?_
    refine gs_c n_a0 ?_
    have f5 := (tN_295 T.1 n_a0)
    refine gs_c ⟨f5, (h.2 c0_0).2.2.1⟩ ?_
    have f2 := (tN_287 T.1 n_a0)
    refine gs_kb (gk_fi (gk_b _ _) gk_0) (gd_c f2 (gX85_writes _ _ _ ⟨T.1, T.2⟩ f2 (h.2 c0_0).2.2.2.1)) (fun K3 => ?_)
    have f4 := (ext_is K3.2 (Nat.zero_lt_succ _) (tN_279 T.1 n_a7))
    refine gs_c ⟨f4, (h.2 c0_0).2.2.2.2.1⟩ ?_
    exact And.intro rfl (And.intro (And.intro K3.1.1 K3.1.2) ((ext_dL (ext_tr K3.2 (ext_dL (ext_r _))))))
noncomputable def GX84_translate (a0 : Nat) (a1 : Int64) (a2 : Int32) (a3 : Int32) (M : FM) : Int64 × FM := (FX84_translate fN a0 a1 a2 a3 M).getD (0, M)
def HX84_translate (a0 : Nat) (a1 : Int64) (a2 : Int32) (a3 : Int32) (M : FM) : Prop := ∃ r, FX84_translate fN a0 a1 a2 a3 M = some r ∧ OkR M r
theorem gX84_translate (a0 : Nat) (a1 : Int64) (a2 : Int32) (a3 : Int32) (M : FM) (h : HX84_translate a0 a1 a2 a3 M) : gd (FX84_translate fN a0 a1 a2 a3 M) (GX84_translate a0 a1 a2 a3 M) (OkR M) := gd_op h
noncomputable def GX84_find_90 (s0 : Int64) (M : FM) : Int64 × FM :=
  (s0, M)
theorem gX84_find_90 (s0 : Int64) (M : FM) (T : Ty M) : gd (FX84_find_90 fN s0 M) (GX84_find_90 s0 M) (OkR M) := by
  delta FX84_find_90 BX84_find_90
  exact ⟨rfl, ⟨T.1, T.2⟩, (ext_r _)⟩
noncomputable def GX84_find_79 (a6 : Int64) (M : FM) : Int64 × FM :=
  GX84_find_90 a6 M
theorem gX84_find_79 (a6 : Int64) (M : FM) (T : Ty M) : gd (FX84_find_79 fN a6 M) (GX84_find_79 a6 M) (OkR M) := by
  delta FX84_find_79 BX84_find_79
  exact gd_tR (ext_r _) (gX84_find_90 _ _ ⟨T.1, T.2⟩  )
noncomputable def GX84_find_55 (a0 : Nat) (a3 : Int32) (a4 : Int32) (a5 : Int32) (a6 : Int64) (M : FM) : Int64 × FM :=
  fi ((lg_cmp a6 (Int64.ofInt 0)) < 0) (
    GX84_find_79 a6 M) (
    let x1 : Nat := (M.2.2 288 a0 0)
    let r2 : Int32 × FM := GX86_let x1 a6 a5 a3 a4 M
    fi (r2.1 = 0) (
      let r3 : Int64 × FM := GX84_fault a0 a3 (Int32.ofInt 0) r2.2
      GX84_find_90 r3.1 r3.2) (
      GX84_find_79 a6 r2.2))
def HX84_find_55 (a0 : Nat) (a3 : Int32) (a4 : Int32) (a5 : Int32) (a6 : Int64) (M : FM) : Prop := (((lg_cmp a6 (Int64.ofInt 0)) < 0 → True) ∧ (¬ ((lg_cmp a6 (Int64.ofInt 0)) < 0) → let x1 : Nat := (M.2.2 288 a0 0); (HX86_let x1 a6 a5 a3 a4 M ∧ let r2 : Int32 × FM := GX86_let x1 a6 a5 a3 a4 M; ((r2.1 = 0 → (HX84_fault a0 a3 (Int32.ofInt 0) r2.2 ∧ True)) ∧ (¬ (r2.1 = 0) → True)))))
theorem gX84_find_55 (a0 : Nat) (a3 : Int32) (a4 : Int32) (a5 : Int32) (a6 : Int64) (M : FM) (T : Ty M) (n_a0 : fm_is M 91 91 a0 = true) (h : HX84_find_55 a0 a3 a4 a5 a6 M) : gd (FX84_find_55 fN a0 a3 a4 a5 a6 M) (GX84_find_55 a0 a3 a4 a5 a6 M) (OkR M) := by
  delta FX84_find_55 BX84_find_55
  refine gd_fi (fun c0_0 => ?_) (fun c0_0 => ?_)
  · exact gd_tR (ext_r _) (gX84_find_79 _ _ ⟨T.1, T.2⟩  )
  · refine gd_c n_a0 ?_
    have f1 := (tN_288 T.1 n_a0)
    refine gd_c f1 ?_
    refine gd_b (gX86_let _ _ _ _ _ _ (h.2 c0_0).1) (fun K2 => ?_)
    refine gd_fi (fun c3_0 => ?_) (fun c3_0 => ?_)
    · have f4 := (ext_is K2.2.1 (Nat.zero_lt_succ _) n_a0)
      refine gd_c f4 ?_
      have f6 := (ext_is K2.2.1 (Nat.zero_lt_succ _) n_a0)
      refine gd_b (gX84_fault _ _ _ _ ⟨K2.1.1, K2.1.2⟩ f6 ((h.2 c0_0).2.1 c3_0).1) (fun K5 => ?_)
      exact gd_tR (ext_tr K2.2.1 K5.2) (gX84_find_90 _ _ ⟨K5.1.1, K5.1.2⟩  )
    · exact gd_tR K2.2.1 (gX84_find_79 _ _ ⟨K2.1.1, K2.1.2⟩  )
noncomputable def GX84_find_40 (a0 : Nat) (a3 : Int32) (a4 : Int32) (a5 : Int32) (s0 : Int64) (M : FM) : Int64 × FM :=
  GX84_find_55 a0 a3 a4 a5 s0 M
def HX84_find_40 (a0 : Nat) (a3 : Int32) (a4 : Int32) (a5 : Int32) (s0 : Int64) (M : FM) : Prop := HX84_find_55 a0 a3 a4 a5 s0 M
theorem gX84_find_40 (a0 : Nat) (a3 : Int32) (a4 : Int32) (a5 : Int32) (s0 : Int64) (M : FM) (T : Ty M) (n_a0 : fm_is M 91 91 a0 = true) (h : HX84_find_40 a0 a3 a4 a5 s0 M) : gd (FX84_find_40 fN a0 a3 a4 a5 s0 M) (GX84_find_40 a0 a3 a4 a5 s0 M) (OkR M) := by
  delta FX84_find_40 BX84_find_40
  exact gd_tR (ext_r _) (gX84_find_55 _ _ _ _ _ _ ⟨T.1, T.2⟩ n_a0 h)
noncomputable def GX84_find_21 (a0 : Nat) (a1 : Int64) (a3 : Int32) (a4 : Int32) (a5 : Int32) (M : FM) : Int64 × FM :=
  fi ((lg_cmp ((a1.toUInt64 >>> ((Int32.ofInt 56).toInt64.toUInt64 &&& Int64.toUInt64 63)).toInt64) (Int64.ofInt 0)) = 0) (
    GX84_find_40 a0 a3 a4 a5 a1 M) (
    let r1 : Int64 × FM := GX84_fault a0 a3 (Int32.ofInt 0) M
    GX84_find_40 a0 a3 a4 a5 r1.1 r1.2)
def HX84_find_21 (a0 : Nat) (a1 : Int64) (a3 : Int32) (a4 : Int32) (a5 : Int32) (M : FM) : Prop := (((lg_cmp ((a1.toUInt64 >>> ((Int32.ofInt 56).toInt64.toUInt64 &&& Int64.toUInt64 63)).toInt64) (Int64.ofInt 0)) = 0 → HX84_find_40 a0 a3 a4 a5 a1 M) ∧ (¬ ((lg_cmp ((a1.toUInt64 >>> ((Int32.ofInt 56).toInt64.toUInt64 &&& Int64.toUInt64 63)).toInt64) (Int64.ofInt 0)) = 0) → (HX84_fault a0 a3 (Int32.ofInt 0) M ∧ let r1 : Int64 × FM := GX84_fault a0 a3 (Int32.ofInt 0) M; HX84_find_40 a0 a3 a4 a5 r1.1 r1.2)))
theorem gX84_find_21 (a0 : Nat) (a1 : Int64) (a3 : Int32) (a4 : Int32) (a5 : Int32) (M : FM) (T : Ty M) (n_a0 : fm_is M 91 91 a0 = true) (h : HX84_find_21 a0 a1 a3 a4 a5 M) : gd (FX84_find_21 fN a0 a1 a3 a4 a5 M) (GX84_find_21 a0 a1 a3 a4 a5 M) (OkR M) := by
  delta FX84_find_21 BX84_find_21
  refine gd_fi (fun c0_0 => ?_) (fun c0_0 => ?_)
  · exact gd_tR (ext_r _) (gX84_find_40 _ _ _ _ _ _ ⟨T.1, T.2⟩ n_a0 (h.1 c0_0))
  · refine gd_c n_a0 ?_
    refine gd_b (gX84_fault _ _ _ _ ⟨T.1, T.2⟩ n_a0 (h.2 c0_0).1) (fun K1 => ?_)
    have f2 := (ext_is K1.2 (Nat.zero_lt_succ _) n_a0)
    exact gd_tR K1.2 (gX84_find_40 _ _ _ _ _ _ ⟨K1.1.1, K1.1.2⟩ f2 (h.2 c0_0).2)
noncomputable def GX84_find_0 (a0 : Nat) (a1 : Int64) (a3 : Int32) (a4 : Int32) (a5 : Int32) (M : FM) : Int64 × FM :=
  fi (a4 = (Int32.ofInt 3)) (
    GX84_find_21 a0 a1 a3 a4 a5 M) (
    let r1 : Int64 × FM := GX102_bits (M.2.1 289 a0 0) (Int32.ofInt 60) (Int32.ofInt 4) M
    fi ((lg_cmp r1.1 (Int64.ofInt 0)) = 0) (
      GX84_find_21 a0 a1 a3 a4 a5 r1.2) (
      let r2 : Int64 × FM := GX84_translate a0 a1 a3 a4 r1.2
      GX84_find_55 a0 a3 a4 a5 r2.1 r2.2))
def HX84_find_0 (a0 : Nat) (a1 : Int64) (a3 : Int32) (a4 : Int32) (a5 : Int32) (M : FM) : Prop := ((a4 = (Int32.ofInt 3) → HX84_find_21 a0 a1 a3 a4 a5 M) ∧ (¬ (a4 = (Int32.ofInt 3)) → let r1 : Int64 × FM := GX102_bits (M.2.1 289 a0 0) (Int32.ofInt 60) (Int32.ofInt 4) M; (((lg_cmp r1.1 (Int64.ofInt 0)) = 0 → HX84_find_21 a0 a1 a3 a4 a5 r1.2) ∧ (¬ ((lg_cmp r1.1 (Int64.ofInt 0)) = 0) → (HX84_translate a0 a1 a3 a4 r1.2 ∧ let r2 : Int64 × FM := GX84_translate a0 a1 a3 a4 r1.2; HX84_find_55 a0 a3 a4 a5 r2.1 r2.2)))))
theorem gX84_find_0 (a0 : Nat) (a1 : Int64) (a3 : Int32) (a4 : Int32) (a5 : Int32) (M : FM) (T : Ty M) (n_a0 : fm_is M 91 91 a0 = true) (h : HX84_find_0 a0 a1 a3 a4 a5 M) : gd (FX84_find_0 fN a0 a1 a3 a4 a5 M) (GX84_find_0 a0 a1 a3 a4 a5 M) (OkR M) := by
  delta FX84_find_0 BX84_find_0
  refine gd_fi (fun c0_0 => ?_) (fun c0_0 => ?_)
  · exact gd_tR (ext_r _) (gX84_find_21 _ _ _ _ _ _ ⟨T.1, T.2⟩ n_a0 (h.1 c0_0))
  · refine gd_c n_a0 ?_
    refine gd_b (gX102_bits _ _ _ _ ⟨T.1, T.2⟩  ) (fun K1 => ?_)
    refine gd_fi (fun c2_0 => ?_) (fun c2_0 => ?_)
    · have f3 := (ext_is K1.2 (Nat.zero_lt_succ _) n_a0)
      exact gd_tR K1.2 (gX84_find_21 _ _ _ _ _ _ ⟨K1.1.1, K1.1.2⟩ f3 ((h.2 c0_0).1 c2_0))
    · have f4 := (ext_is K1.2 (Nat.zero_lt_succ _) n_a0)
      refine gd_c f4 ?_
      refine gd_b (gX84_translate _ _ _ _ _ ((h.2 c0_0).2 c2_0).1) (fun K5 => ?_)
      have f6 := (ext_is K5.2 (Nat.zero_lt_succ _) (ext_is K1.2 (Nat.zero_lt_succ _) n_a0))
      exact gd_tR (ext_tr K1.2 K5.2) (gX84_find_55 _ _ _ _ _ _ ⟨K5.1.1, K5.1.2⟩ f6 ((h.2 c0_0).2 c2_0).2)
noncomputable def GX84_find (a0 : Nat) (a1 : Int64) (a3 : Int32) (a4 : Int32) (a5 : Int32) (M : FM) : Int64 × FM := GX84_find_0 a0 a1 a3 a4 a5 M
def HX84_find (a0 : Nat) (a1 : Int64) (a3 : Int32) (a4 : Int32) (a5 : Int32) (M : FM) : Prop := HX84_find_0 a0 a1 a3 a4 a5 M
theorem gX84_find (a0 : Nat) (a1 : Int64) (a3 : Int32) (a4 : Int32) (a5 : Int32) (M : FM) (T : Ty M) (n_a0 : fm_is M 91 91 a0 = true) (h : HX84_find a0 a1 a3 a4 a5 M) : gd (FX84_find fN a0 a1 a3 a4 a5 M) (GX84_find a0 a1 a3 a4 a5 M) (OkR M) := gX84_find_0 a0 a1 a3 a4 a5 M T n_a0 h
noncomputable def GX46_find_0 (a0 : Nat) (a1 : Int64) (a3 : Int32) (a4 : Int32) (a5 : Int32) (M : FM) : Int64 × FM :=
  let r1 : Nat × FM := GX46_table a0 M
  let x2 : Nat := (M.2.2 214 a0 0)
  let M3 : FM := fm_sL r1.2 289 x2 0 (r1.2.2.1 41 r1.1 0)
  let x4 : Nat := (M3.2.2 213 a0 0)
  let x5 : Nat := (M3.2.2 27 x4 0)
  let x6 : Nat := (M3.2.2 214 a0 0)
  let M7 : FM := fm_sI M3 290 x6 0 (((M3.2.1 41 x5 0) >>> ((Int32.ofInt 18).toInt64 &&& 63)).toInt32 &&& (Int32.ofInt 3))
  let x8 : Nat := (M7.2.2 214 a0 0)
  let r9 : Int64 × FM := GX84_find x8 a1 a3 a4 a5 M7
  (r9.1, r9.2)
def HX46_find_0 (a0 : Nat) (a1 : Int64) (a3 : Int32) (a4 : Int32) (a5 : Int32) (M : FM) : Prop := (HX46_table a0 M ∧ let r1 : Nat × FM := GX46_table a0 M; let x2 : Nat := (M.2.2 214 a0 0); let M3 : FM := fm_sL r1.2 289 x2 0 (r1.2.2.1 41 r1.1 0); let x4 : Nat := (M3.2.2 213 a0 0); let x5 : Nat := (M3.2.2 27 x4 0); let x6 : Nat := (M3.2.2 214 a0 0); let M7 : FM := fm_sI M3 290 x6 0 (((M3.2.1 41 x5 0) >>> ((Int32.ofInt 18).toInt64 &&& 63)).toInt32 &&& (Int32.ofInt 3)); let x8 : Nat := (M7.2.2 214 a0 0); (HX84_find x8 a1 a3 a4 a5 M7 ∧ True))
theorem gX46_find_0 (a0 : Nat) (a1 : Int64) (a3 : Int32) (a4 : Int32) (a5 : Int32) (M : FM) (T : Ty M) (n_a0 : fm_is M 75 75 a0 = true) (h : HX46_find_0 a0 a1 a3 a4 a5 M) : gd (FX46_find_0 fN a0 a1 a3 a4 a5 M) (GX46_find_0 a0 a1 a3 a4 a5 M) (OkR M) := by
  delta FX46_find_0 BX46_find_0
  refine gd_c n_a0 ?_
  refine gd_c n_a0 ?_
  refine gd_b (gX46_table _ _ ⟨T.1, T.2⟩ n_a0 h.1) (fun K0 => ?_)
  refine gd_c K0.2.2 ?_
  have f1 := (ext_is K0.2.1 (Nat.zero_lt_succ _) (tN_214 T.1 n_a0))
  refine gd_c f1 ?_
  have f2 := (ext_is K0.2.1 (Nat.zero_lt_succ _) n_a0)
  refine gd_c f2 ?_
  have f3 := (ext_is K0.2.1 (Nat.zero_lt_succ _) n_a0)
  refine gd_c f3 ?_
  have f4 := (tN_213 K0.1.1 (ext_is K0.2.1 (Nat.zero_lt_succ _) n_a0))
  refine gd_c f4 ?_
  have f5 := (tN_27 K0.1.1 (tN_213 K0.1.1 (ext_is K0.2.1 (Nat.zero_lt_succ _) n_a0)))
  refine gd_c f5 ?_
  have f6 := (tN_214 K0.1.1 (ext_is K0.2.1 (Nat.zero_lt_succ _) n_a0))
  refine gd_c f6 ?_
  have f7 := (ext_is K0.2.1 (Nat.zero_lt_succ _) n_a0)
  refine gd_c f7 ?_
  have f8 := (tN_214 K0.1.1 (ext_is K0.2.1 (Nat.zero_lt_succ _) n_a0))
  refine gd_c f8 ?_
  have f10 := (tN_214 K0.1.1 (ext_is K0.2.1 (Nat.zero_lt_succ _) n_a0))
  refine gd_b (gX84_find _ _ _ _ _ _ ⟨K0.1.1, (tyb_sI (f := 290) rfl K0.1.2)⟩ f10 h.2.1) (fun K9 => ?_)
  exact ⟨rfl, ⟨K9.1.1, K9.1.2⟩, (ext_tr K0.2.1 (ext_dL (ext_dI K9.2)))⟩
noncomputable def GX46_find (a0 : Nat) (a1 : Int64) (a3 : Int32) (a4 : Int32) (a5 : Int32) (M : FM) : Int64 × FM := GX46_find_0 a0 a1 a3 a4 a5 M
def HX46_find (a0 : Nat) (a1 : Int64) (a3 : Int32) (a4 : Int32) (a5 : Int32) (M : FM) : Prop := HX46_find_0 a0 a1 a3 a4 a5 M
theorem gX46_find (a0 : Nat) (a1 : Int64) (a3 : Int32) (a4 : Int32) (a5 : Int32) (M : FM) (T : Ty M) (n_a0 : fm_is M 75 75 a0 = true) (h : HX46_find a0 a1 a3 a4 a5 M) : gd (FX46_find fN a0 a1 a3 a4 a5 M) (GX46_find a0 a1 a3 a4 a5 M) (OkR M) := gX46_find_0 a0 a1 a3 a4 a5 M T n_a0 h
noncomputable def GX77_write_0 (a0 : Nat) (a1 : Int64) (M : FM) : FM :=
  let M1 : FM := fm_sL M 41 a0 0 (((M.2.1 41 a0 0) &&& ((M.2.1 42 a0 0) ^^^ (Int64.ofInt (-1)))) ||| (a1 &&& (M.2.1 42 a0 0)))
  M1
theorem gX77_write_0 (a0 : Nat) (a1 : Int64) (M : FM) (T : Ty M) (n_a0 : fm_is M 14 17 a0 = true) : gd (FX77_write_0 a0 a1 M) (GX77_write_0 a0 a1 M) (OkV M) := by
  delta FX77_write_0 BX77_write_0
  refine gd_c n_a0 ?_
  refine gd_c n_a0 ?_
  refine gd_c n_a0 ?_
  refine gd_c n_a0 ?_
  exact ⟨rfl, ⟨T.1, T.2⟩, (ext_dL (ext_r _))⟩
noncomputable def GX77_write (a0 : Nat) (a1 : Int64) (M : FM) : FM := GX77_write_0 a0 a1 M
theorem gX77_write (a0 : Nat) (a1 : Int64) (M : FM) (T : Ty M) (n_a0 : fm_is M 14 17 a0 = true) : gd (FX77_write a0 a1 M) (GX77_write a0 a1 M) (OkV M) := gX77_write_0 a0 a1 M T n_a0 
noncomputable def GX78_putTwo_0 (a0 : Nat) (a1 : Int32) (a2 : Int32) (M : FM) : FM :=
  let M1 : FM := fm_sL M 41 a0 0 (((M.2.1 41 a0 0) &&& (((Int64.ofInt 3) <<< (a1.toInt64 &&& 63)) ^^^ (Int64.ofInt (-1)))) ||| (a2.toInt64 <<< (a1.toInt64 &&& 63)))
  M1
theorem gX78_putTwo_0 (a0 : Nat) (a1 : Int32) (a2 : Int32) (M : FM) (T : Ty M) (n_a0 : fm_is M 16 16 a0 = true) : gd (FX78_putTwo_0 a0 a1 a2 M) (GX78_putTwo_0 a0 a1 a2 M) (OkV M) := by
  delta FX78_putTwo_0 BX78_putTwo_0
  refine gd_c n_a0 ?_
  refine gd_c n_a0 ?_
  exact ⟨rfl, ⟨T.1, T.2⟩, (ext_dL (ext_r _))⟩
noncomputable def GX78_putTwo (a0 : Nat) (a1 : Int32) (a2 : Int32) (M : FM) : FM := GX78_putTwo_0 a0 a1 a2 M
theorem gX78_putTwo (a0 : Nat) (a1 : Int32) (a2 : Int32) (M : FM) (T : Ty M) (n_a0 : fm_is M 16 16 a0 = true) : gd (FX78_putTwo a0 a1 a2 M) (GX78_putTwo a0 a1 a2 M) (OkV M) := gX78_putTwo_0 a0 a1 a2 M T n_a0 
noncomputable def GX78_write_29 (M : FM) : FM :=
  M
theorem gX78_write_29 (M : FM) (T : Ty M) : gd (FX78_write_29 M) (GX78_write_29 M) (OkV M) := by
  delta FX78_write_29 BX78_write_29
  exact ⟨rfl, ⟨T.1, T.2⟩, (ext_r _)⟩
noncomputable def GX78_write_0 (a0 : Nat) (a1 : Int64) (M : FM) : FM :=
  let r1 : Int32 × FM := GX78_two a0 (Int32.ofInt 11) M
  let M2 : FM := GX77_write a0 a1 r1.2
  let r3 : Int32 × FM := GX78_two a0 (Int32.ofInt 11) M2
  fi (r3.1 = (Int32.ofInt 2)) (
    let M4 : FM := GX78_putTwo a0 (Int32.ofInt 11) r1.1 r3.2
    GX78_write_29 M4) (
    GX78_write_29 r3.2)
theorem gX78_write_0 (a0 : Nat) (a1 : Int64) (M : FM) (T : Ty M) (n_a0 : fm_is M 16 16 a0 = true) : gd (FX78_write_0 a0 a1 M) (GX78_write_0 a0 a1 M) (OkV M) := by
  delta FX78_write_0 BX78_write_0
  refine gd_c n_a0 ?_
  refine gd_b (gX78_two _ _ _ ⟨T.1, T.2⟩ n_a0 ) (fun K0 => ?_)
  have f1 := (ext_is K0.2 (Nat.zero_lt_succ _) n_a0)
  refine gd_c f1 ?_
  have f10 := (fm_w (lo' := 14) (hi' := 17) rfl rfl (ext_is K0.2 (Nat.zero_lt_succ _) n_a0))
  refine gd_b (gX77_write _ _ _ ⟨K0.1.1, K0.1.2⟩ f10 ) (fun K2 => ?_)
  have f3 := (ext_is K2.2 (Nat.zero_lt_succ _) (ext_is K0.2 (Nat.zero_lt_succ _) n_a0))
  refine gd_c f3 ?_
  have f9 := (ext_is K2.2 (Nat.zero_lt_succ _) (ext_is K0.2 (Nat.zero_lt_succ _) n_a0))
  refine gd_b (gX78_two _ _ _ ⟨K2.1.1, K2.1.2⟩ f9 ) (fun K4 => ?_)
  refine gd_fi (fun c5_0 => ?_) (fun c5_0 => ?_)
  · have f6 := (ext_is K4.2 (Nat.zero_lt_succ _) (ext_is K2.2 (Nat.zero_lt_succ _) (ext_is K0.2 (Nat.zero_lt_succ _) n_a0)))
    refine gd_c f6 ?_
    have f8 := (ext_is K4.2 (Nat.zero_lt_succ _) (ext_is K2.2 (Nat.zero_lt_succ _) (ext_is K0.2 (Nat.zero_lt_succ _) n_a0)))
    refine gd_b (gX78_putTwo _ _ _ _ ⟨K4.1.1, K4.1.2⟩ f8 ) (fun K7 => ?_)
    exact gd_tV (ext_tr K0.2 (ext_tr K2.2 (ext_tr K4.2 K7.2))) (gX78_write_29  _ ⟨K7.1.1, K7.1.2⟩  )
  · exact gd_tV (ext_tr K0.2 (ext_tr K2.2 K4.2)) (gX78_write_29  _ ⟨K4.1.1, K4.1.2⟩  )
noncomputable def GX78_write (a0 : Nat) (a1 : Int64) (M : FM) : FM := GX78_write_0 a0 a1 M
theorem gX78_write (a0 : Nat) (a1 : Int64) (M : FM) (T : Ty M) (n_a0 : fm_is M 16 16 a0 = true) : gd (FX78_write a0 a1 M) (GX78_write a0 a1 M) (OkV M) := gX78_write_0 a0 a1 M T n_a0 
noncomputable def GX82_write_27 (M : FM) : FM :=
  M
theorem gX82_write_27 (M : FM) (T : Ty M) : gd (FX82_write_27 M) (GX82_write_27 M) (OkV M) := by
  delta FX82_write_27 BX82_write_27
  exact ⟨rfl, ⟨T.1, T.2⟩, (ext_r _)⟩
noncomputable def GX82_write_22 (a0 : Nat) (a1 : Int64) (M : FM) : FM :=
  let M1 : FM := GX77_write a0 a1 M
  GX82_write_27 M1
theorem gX82_write_22 (a0 : Nat) (a1 : Int64) (M : FM) (T : Ty M) (n_a0 : fm_is M 17 17 a0 = true) : gd (FX82_write_22 a0 a1 M) (GX82_write_22 a0 a1 M) (OkV M) := by
  delta FX82_write_22 BX82_write_22
  refine gd_c n_a0 ?_
  have f1 := (fm_w (lo' := 14) (hi' := 17) rfl rfl n_a0)
  refine gd_b (gX77_write _ _ _ ⟨T.1, T.2⟩ f1 ) (fun K0 => ?_)
  exact gd_tV K0.2 (gX82_write_27  _ ⟨K0.1.1, K0.1.2⟩  )
noncomputable def GX82_write_0 (a0 : Nat) (a1 : Int64) (M : FM) : FM :=
  let x1 : Int32 := ((a1.toUInt64 >>> ((Int32.ofInt 60).toInt64.toUInt64 &&& Int64.toUInt64 63)).toInt64).toInt32
  fi (x1 = 0) (
    GX82_write_22 a0 a1 M) (
    fi (x1 = (Int32.ofInt 8)) (
      GX82_write_22 a0 a1 M) (
      fi (x1 = (Int32.ofInt 9)) (
        GX82_write_22 a0 a1 M) (
        GX82_write_27 M)))
theorem gX82_write_0 (a0 : Nat) (a1 : Int64) (M : FM) (T : Ty M) (n_a0 : fm_is M 17 17 a0 = true) : gd (FX82_write_0 a0 a1 M) (GX82_write_0 a0 a1 M) (OkV M) := by
  delta FX82_write_0 BX82_write_0
  refine gd_fi (fun c0_0 => ?_) (fun c0_0 => ?_)
  · exact gd_tV (ext_r _) (gX82_write_22 _ _ _ ⟨T.1, T.2⟩ n_a0 )
  · refine gd_fi (fun c1_0 => ?_) (fun c1_0 => ?_)
    · exact gd_tV (ext_r _) (gX82_write_22 _ _ _ ⟨T.1, T.2⟩ n_a0 )
    · refine gd_fi (fun c2_0 => ?_) (fun c2_0 => ?_)
      · exact gd_tV (ext_r _) (gX82_write_22 _ _ _ ⟨T.1, T.2⟩ n_a0 )
      · exact gd_tV (ext_r _) (gX82_write_27  _ ⟨T.1, T.2⟩  )
noncomputable def GX82_write (a0 : Nat) (a1 : Int64) (M : FM) : FM := GX82_write_0 a0 a1 M
theorem gX82_write (a0 : Nat) (a1 : Int64) (M : FM) (T : Ty M) (n_a0 : fm_is M 17 17 a0 = true) : gd (FX82_write a0 a1 M) (GX82_write a0 a1 M) (OkV M) := gX82_write_0 a0 a1 M T n_a0 
noncomputable def GX80_take_84 (s0 : Int64) (M : FM) : Int64 × FM :=
  (s0, M)
theorem gX80_take_84 (s0 : Int64) (M : FM) (T : Ty M) : gd (FX80_take_84 s0 M) (GX80_take_84 s0 M) (OkR M) := by
  delta FX80_take_84 BX80_take_84
  exact ⟨rfl, ⟨T.1, T.2⟩, (ext_r _)⟩
noncomputable def GX80_take_82 (a7 : Int64) (M : FM) : Int64 × FM :=
  GX80_take_84 a7 M
theorem gX80_take_82 (a7 : Int64) (M : FM) (T : Ty M) : gd (FX80_take_82 a7 M) (GX80_take_82 a7 M) (OkR M) := by
  delta FX80_take_82 BX80_take_82
  exact gd_tR (ext_r _) (gX80_take_84 _ _ ⟨T.1, T.2⟩  )
noncomputable def GX80_take_28 (a0 : Nat) (a1 : Int32) (a2 : Int32) (a3 : Int64) (s0 : Nat) (s1 : Int64) (M : FM) : Int64 × FM :=
  let M1 : FM := (fi (fm_is M 14 14 s0 = true) (GX77_write s0 s1 M) ((fi (fm_is M 15 15 s0 = true) (GX77_write s0 s1 M) ((fi (fm_is M 16 16 s0 = true) (GX78_write s0 s1 M) (GX82_write s0 s1 M))))))
  let x2 : Nat := (M1.2.2 53 a0 0)
  let M3 : FM := (fi (fm_is M1 14 14 x2 = true) (GX77_write x2 a3 M1) ((fi (fm_is M1 15 15 x2 = true) (GX77_write x2 a3 M1) ((fi (fm_is M1 16 16 x2 = true) (GX78_write x2 a3 M1) (GX82_write x2 a3 M1))))))
  let x4 : Nat := (M3.2.2 49 a0 0)
  let r5 : Int64 × FM := (fi (fm_is M3 14 14 x4 = true) (GX77_show x4 M3) ((fi (fm_is M3 15 15 x4 = true) (GX79_show x4 M3) ((fi (fm_is M3 16 16 x4 = true) (GX78_show x4 M3) (GX77_show x4 M3))))))
  let x6 : Int64 := (r5.1 &&& (Int64.ofInt (-4)))
  fi (a1 = 0) (
    GX80_take_82 x6 r5.2) (
    let x7 : Nat := (r5.2.2.2 49 a0 0)
    let r8 : Int64 × FM := (fi (fm_is r5.2 14 14 x7 = true) (GX77_show x7 r5.2) ((fi (fm_is r5.2 15 15 x7 = true) (GX79_show x7 r5.2) ((fi (fm_is r5.2 16 16 x7 = true) (GX78_show x7 r5.2) (GX77_show x7 r5.2))))))
    fi ((lg_cmp (r8.1 &&& (Int64.ofInt 1)) (Int64.ofInt 1)) = 0) (
      GX80_take_84 (x6 + ((Int64.ofInt 4) * a2.toInt64)) r8.2) (
      GX80_take_82 x6 r8.2))
theorem gX80_take_28 (a0 : Nat) (a1 : Int32) (a2 : Int32) (a3 : Int64) (s0 : Nat) (s1 : Int64) (M : FM) (T : Ty M) (n_s0 : fm_is M 14 17 s0 = true) (n_a0 : fm_is M 20 20 a0 = true) : gd (FX80_take_28 a0 a1 a2 a3 s0 s1 M) (GX80_take_28 a0 a1 a2 a3 s0 s1 M) (OkR M) := by
  delta FX80_take_28 BX80_take_28
  refine gd_kb (gk_fi (gk_b _ _) (gk_fi (gk_b _ _) (gk_fi (gk_b _ _) (gk_fi (gk_b _ _) gk_0)))) (gd_fi (fun c0 => (gX77_write _ _ _ ⟨T.1, T.2⟩ (fm_w (lo' := 14) (hi' := 17) rfl rfl c0) )) (fun c0 => (gd_fi (fun c1 => (gX77_write _ _ _ ⟨T.1, T.2⟩ (fm_w (lo' := 14) (hi' := 17) rfl rfl c1) )) (fun c1 => (gd_fi (fun c2 => (gX78_write _ _ _ ⟨T.1, T.2⟩ c2 )) (fun c2 => (gd_c (fm_up (fm_up (fm_up n_s0 c0) c1) c2) (gX82_write _ _ _ ⟨T.1, T.2⟩ (fm_up (fm_up (fm_up n_s0 c0) c1) c2) )))))))) (fun K3 => ?_)
  have f4 := (ext_is K3.2 (Nat.zero_lt_succ _) n_a0)
  refine gd_c f4 ?_
  have f5 := (tN_53 K3.1.1 (ext_is K3.2 (Nat.zero_lt_succ _) n_a0))
  refine gd_kb (gk_fi (gk_b _ _) (gk_fi (gk_b _ _) (gk_fi (gk_b _ _) (gk_fi (gk_b _ _) gk_0)))) (gd_fi (fun c6 => (gX77_write _ _ _ ⟨K3.1.1, K3.1.2⟩ (fm_w (lo' := 14) (hi' := 17) rfl rfl c6) )) (fun c6 => (gd_fi (fun c7 => (gX77_write _ _ _ ⟨K3.1.1, K3.1.2⟩ (fm_w (lo' := 14) (hi' := 17) rfl rfl c7) )) (fun c7 => (gd_fi (fun c8 => (gX78_write _ _ _ ⟨K3.1.1, K3.1.2⟩ c8 )) (fun c8 => (gd_c (fm_up (fm_up (fm_up f5 c6) c7) c8) (gX82_write _ _ _ ⟨K3.1.1, K3.1.2⟩ (fm_up (fm_up (fm_up f5 c6) c7) c8) )))))))) (fun K9 => ?_)
  have f10 := (ext_is K9.2 (Nat.zero_lt_succ _) (ext_is K3.2 (Nat.zero_lt_succ _) n_a0))
  refine gd_c f10 ?_
  have f11 := (tN_49 K9.1.1 (ext_is K9.2 (Nat.zero_lt_succ _) (ext_is K3.2 (Nat.zero_lt_succ _) n_a0)))
  refine gd_kb (gk_fi (gk_b _ _) (gk_fi (gk_b _ _) (gk_fi (gk_b _ _) (gk_fi (gk_b _ _) gk_0)))) (gd_fi (fun c12 => (gX77_show _ _ ⟨K9.1.1, K9.1.2⟩ (fm_w (lo' := 14) (hi' := 17) rfl rfl c12) )) (fun c12 => (gd_fi (fun c13 => (gX79_show _ _ ⟨K9.1.1, K9.1.2⟩ c13 )) (fun c13 => (gd_fi (fun c14 => (gX78_show _ _ ⟨K9.1.1, K9.1.2⟩ c14 )) (fun c14 => (gd_c (fm_up (fm_up (fm_up f11 c12) c13) c14) (gX77_show _ _ ⟨K9.1.1, K9.1.2⟩ (fm_w (lo' := 14) (hi' := 17) rfl rfl (fm_up (fm_up (fm_up f11 c12) c13) c14)) )))))))) (fun K15 => ?_)
  refine gd_fi (fun c16_0 => ?_) (fun c16_0 => ?_)
  · exact gd_tR (ext_tr K3.2 (ext_tr K9.2 K15.2)) (gX80_take_82 _ _ ⟨K15.1.1, K15.1.2⟩  )
  · have f17 := (ext_is K15.2 (Nat.zero_lt_succ _) (ext_is K9.2 (Nat.zero_lt_succ _) (ext_is K3.2 (Nat.zero_lt_succ _) n_a0)))
    refine gd_c f17 ?_
    have f18 := (tN_49 K15.1.1 (ext_is K15.2 (Nat.zero_lt_succ _) (ext_is K9.2 (Nat.zero_lt_succ _) (ext_is K3.2 (Nat.zero_lt_succ _) n_a0))))
    refine gd_kb (gk_fi (gk_b _ _) (gk_fi (gk_b _ _) (gk_fi (gk_b _ _) (gk_fi (gk_b _ _) gk_0)))) (gd_fi (fun c19 => (gX77_show _ _ ⟨K15.1.1, K15.1.2⟩ (fm_w (lo' := 14) (hi' := 17) rfl rfl c19) )) (fun c19 => (gd_fi (fun c20 => (gX79_show _ _ ⟨K15.1.1, K15.1.2⟩ c20 )) (fun c20 => (gd_fi (fun c21 => (gX78_show _ _ ⟨K15.1.1, K15.1.2⟩ c21 )) (fun c21 => (gd_c (fm_up (fm_up (fm_up f18 c19) c20) c21) (gX77_show _ _ ⟨K15.1.1, K15.1.2⟩ (fm_w (lo' := 14) (hi' := 17) rfl rfl (fm_up (fm_up (fm_up f18 c19) c20) c21)) )))))))) (fun K22 => ?_)
    refine gd_fi (fun c23_0 => ?_) (fun c23_0 => ?_)
    · exact gd_tR (ext_tr K3.2 (ext_tr K9.2 (ext_tr K15.2 K22.2))) (gX80_take_84 _ _ ⟨K22.1.1, K22.1.2⟩  )
    · exact gd_tR (ext_tr K3.2 (ext_tr K9.2 (ext_tr K15.2 K22.2))) (gX80_take_82 _ _ ⟨K22.1.1, K22.1.2⟩  )
noncomputable def GX80_take_0 (a0 : Nat) (a1 : Int32) (a2 : Int32) (a3 : Int64) (a5 : Int64) (M : FM) : Int64 × FM :=
  let x1 : Nat := (M.2.2 51 a0 0)
  let M2 : FM := (fi (fm_is M 14 14 x1 = true) (GX77_write x1 a5 M) ((fi (fm_is M 15 15 x1 = true) (GX77_write x1 a5 M) ((fi (fm_is M 16 16 x1 = true) (GX78_write x1 a5 M) (GX82_write x1 a5 M))))))
  fi (a1 = 0) (
    GX80_take_28 a0 a1 a2 a3 (M2.2.2 52 a0 0) a2.toInt64 M2) (
    GX80_take_28 a0 a1 a2 a3 (M2.2.2 52 a0 0) (a2.toInt64 ||| (Int64.ofInt (-9223372036854775808))) M2)
theorem gX80_take_0 (a0 : Nat) (a1 : Int32) (a2 : Int32) (a3 : Int64) (a5 : Int64) (M : FM) (T : Ty M) (n_a0 : fm_is M 20 20 a0 = true) : gd (FX80_take_0 a0 a1 a2 a3 a5 M) (GX80_take_0 a0 a1 a2 a3 a5 M) (OkR M) := by
  delta FX80_take_0 BX80_take_0
  refine gd_c n_a0 ?_
  have f0 := (tN_51 T.1 n_a0)
  refine gd_kb (gk_fi (gk_b _ _) (gk_fi (gk_b _ _) (gk_fi (gk_b _ _) (gk_fi (gk_b _ _) gk_0)))) (gd_fi (fun c1 => (gX77_write _ _ _ ⟨T.1, T.2⟩ (fm_w (lo' := 14) (hi' := 17) rfl rfl c1) )) (fun c1 => (gd_fi (fun c2 => (gX77_write _ _ _ ⟨T.1, T.2⟩ (fm_w (lo' := 14) (hi' := 17) rfl rfl c2) )) (fun c2 => (gd_fi (fun c3 => (gX78_write _ _ _ ⟨T.1, T.2⟩ c3 )) (fun c3 => (gd_c (fm_up (fm_up (fm_up f0 c1) c2) c3) (gX82_write _ _ _ ⟨T.1, T.2⟩ (fm_up (fm_up (fm_up f0 c1) c2) c3) )))))))) (fun K4 => ?_)
  have f5 := (ext_is K4.2 (Nat.zero_lt_succ _) n_a0)
  refine gd_c f5 ?_
  refine gd_fi (fun c6_0 => ?_) (fun c6_0 => ?_)
  · have f7 := (tN_52 K4.1.1 (ext_is K4.2 (Nat.zero_lt_succ _) n_a0))
    have f8 := (ext_is K4.2 (Nat.zero_lt_succ _) n_a0)
    exact gd_tR K4.2 (gX80_take_28 _ _ _ _ _ _ _ ⟨K4.1.1, K4.1.2⟩ f7 f8 )
  · have f9 := (tN_52 K4.1.1 (ext_is K4.2 (Nat.zero_lt_succ _) n_a0))
    have f10 := (ext_is K4.2 (Nat.zero_lt_succ _) n_a0)
    exact gd_tR K4.2 (gX80_take_28 _ _ _ _ _ _ _ ⟨K4.1.1, K4.1.2⟩ f9 f10 )
noncomputable def GX80_take (a0 : Nat) (a1 : Int32) (a2 : Int32) (a3 : Int64) (a5 : Int64) (M : FM) : Int64 × FM := GX80_take_0 a0 a1 a2 a3 a5 M
theorem gX80_take (a0 : Nat) (a1 : Int32) (a2 : Int32) (a3 : Int64) (a5 : Int64) (M : FM) (T : Ty M) (n_a0 : fm_is M 20 20 a0 = true) : gd (FX80_take a0 a1 a2 a3 a5 M) (GX80_take a0 a1 a2 a3 a5 M) (OkR M) := gX80_take_0 a0 a1 a2 a3 a5 M T n_a0 
noncomputable def GX78_put_28 (s0 : Nat) (s1 : Int64) (M : FM) : FM :=
  let M1 : FM := fm_sL M 41 s0 0 s1
  M1
theorem gX78_put_28 (s0 : Nat) (s1 : Int64) (M : FM) (T : Ty M) (n_s0 : fm_is M 16 16 s0 = true) : gd (FX78_put_28 s0 s1 M) (GX78_put_28 s0 s1 M) (OkV M) := by
  delta FX78_put_28 BX78_put_28
  refine gd_c n_s0 ?_
  exact ⟨rfl, ⟨T.1, T.2⟩, (ext_dL (ext_r _))⟩
noncomputable def GX78_put_0 (a0 : Nat) (a1 : Int32) (a2 : Int32) (M : FM) : FM :=
  fi (a2 = 0) (
    GX78_put_28 a0 ((M.2.1 41 a0 0) &&& (((Int64.ofInt 1) <<< (a1.toInt64 &&& 63)) ^^^ (Int64.ofInt (-1)))) M) (
    GX78_put_28 a0 ((M.2.1 41 a0 0) ||| ((Int64.ofInt 1) <<< (a1.toInt64 &&& 63))) M)
theorem gX78_put_0 (a0 : Nat) (a1 : Int32) (a2 : Int32) (M : FM) (T : Ty M) (n_a0 : fm_is M 16 16 a0 = true) : gd (FX78_put_0 a0 a1 a2 M) (GX78_put_0 a0 a1 a2 M) (OkV M) := by
  delta FX78_put_0 BX78_put_0
  refine gd_fi (fun c0_0 => ?_) (fun c0_0 => ?_)
  · refine gd_c n_a0 ?_
    exact gd_tV (ext_r _) (gX78_put_28 _ _ _ ⟨T.1, T.2⟩ n_a0 )
  · refine gd_c n_a0 ?_
    exact gd_tV (ext_r _) (gX78_put_28 _ _ _ ⟨T.1, T.2⟩ n_a0 )
noncomputable def GX78_put (a0 : Nat) (a1 : Int32) (a2 : Int32) (M : FM) : FM := GX78_put_0 a0 a1 a2 M
theorem gX78_put (a0 : Nat) (a1 : Int32) (a2 : Int32) (M : FM) (T : Ty M) (n_a0 : fm_is M 16 16 a0 = true) : gd (FX78_put a0 a1 a2 M) (GX78_put a0 a1 a2 M) (OkV M) := gX78_put_0 a0 a1 a2 M T n_a0 
noncomputable def GX74_trap_173 (a0 : Nat) (M : FM) : Int64 × FM :=
  ((M.2.1 39 a0 0), M)
theorem gX74_trap_173 (a0 : Nat) (M : FM) (T : Ty M) (n_a0 : fm_is M 12 12 a0 = true) : gd (FX74_trap_173 a0 M) (GX74_trap_173 a0 M) (OkR M) := by
  delta FX74_trap_173 BX74_trap_173
  refine gd_c n_a0 ?_
  exact ⟨rfl, ⟨T.1, T.2⟩, (ext_r _)⟩
noncomputable def GX74_trap_113 (a0 : Nat) (a1 : Int32) (a2 : Int32) (a3 : Int64) (a5 : Int64) (M : FM) : Int64 × FM :=
  let x1 : Nat := (M.2.2 32 a0 0)
  let r2 : Int64 × FM := GX80_take x1 a1 a2 a3 a5 M
  let M3 : FM := fm_sL r2.2 39 a0 0 r2.1
  let x4 : Nat := (M3.2.2 27 a0 0)
  let M5 : FM := GX78_putTwo x4 (Int32.ofInt 11) (M3.1 37 a0 0) M3
  let x6 : Nat := (M5.2.2 27 a0 0)
  let r7 : Int32 × FM := GX78_has x6 (Int32.ofInt 3) M5
  let x8 : Nat := (M5.2.2 27 a0 0)
  let M9 : FM := GX78_put x8 (Int32.ofInt 7) r7.1 r7.2
  let x10 : Nat := (M9.2.2 27 a0 0)
  let M11 : FM := GX78_put x10 (Int32.ofInt 3) (Int32.ofInt 0) M9
  let M12 : FM := fm_sI M11 37 a0 0 (Int32.ofInt 3)
  GX74_trap_173 a0 M12
theorem gX74_trap_113 (a0 : Nat) (a1 : Int32) (a2 : Int32) (a3 : Int64) (a5 : Int64) (M : FM) (T : Ty M) (n_a0 : fm_is M 12 12 a0 = true) : gd (FX74_trap_113 a0 a1 a2 a3 a5 M) (GX74_trap_113 a0 a1 a2 a3 a5 M) (OkR M) := by
  delta FX74_trap_113 BX74_trap_113
  refine gd_c n_a0 ?_
  have f0 := (tN_32 T.1 n_a0)
  refine gd_c f0 ?_
  have f22 := (tN_32 T.1 n_a0)
  refine gd_b (gX80_take _ _ _ _ _ _ ⟨T.1, T.2⟩ f22 ) (fun K1 => ?_)
  have f2 := (ext_is K1.2 (Nat.zero_lt_succ _) n_a0)
  refine gd_c f2 ?_
  have f3 := (ext_is K1.2 (Nat.zero_lt_succ _) n_a0)
  refine gd_c f3 ?_
  have f4 := (ext_is K1.2 (Nat.zero_lt_succ _) n_a0)
  refine gd_c f4 ?_
  have f5 := (tN_27 K1.1.1 (ext_is K1.2 (Nat.zero_lt_succ _) n_a0))
  refine gd_c f5 ?_
  have f21 := (tN_27 K1.1.1 (ext_is K1.2 (Nat.zero_lt_succ _) n_a0))
  refine gd_b (gX78_putTwo _ _ _ _ ⟨K1.1.1, K1.1.2⟩ f21 ) (fun K6 => ?_)
  have f7 := (ext_is K6.2 (Nat.zero_lt_succ _) (ext_is K1.2 (Nat.zero_lt_succ _) n_a0))
  refine gd_c f7 ?_
  have f8 := (ext_is K6.2 (Nat.zero_lt_succ _) (ext_is K1.2 (Nat.zero_lt_succ _) n_a0))
  refine gd_c f8 ?_
  have f9 := (tN_27 K6.1.1 (ext_is K6.2 (Nat.zero_lt_succ _) (ext_is K1.2 (Nat.zero_lt_succ _) n_a0)))
  refine gd_c f9 ?_
  have f20 := (tN_27 K6.1.1 (ext_is K6.2 (Nat.zero_lt_succ _) (ext_is K1.2 (Nat.zero_lt_succ _) n_a0)))
  refine gd_b (gX78_has _ _ _ ⟨K6.1.1, K6.1.2⟩ f20 ) (fun K10 => ?_)
  have f11 := (ext_is K10.2.1 (Nat.zero_lt_succ _) (tN_27 K6.1.1 (ext_is K6.2 (Nat.zero_lt_succ _) (ext_is K1.2 (Nat.zero_lt_succ _) n_a0))))
  refine gd_c f11 ?_
  have f19 := (ext_is K10.2.1 (Nat.zero_lt_succ _) (tN_27 K6.1.1 (ext_is K6.2 (Nat.zero_lt_succ _) (ext_is K1.2 (Nat.zero_lt_succ _) n_a0))))
  refine gd_b (gX78_put _ _ _ _ ⟨K10.1.1, K10.1.2⟩ f19 ) (fun K12 => ?_)
  have f13 := (ext_is K12.2 (Nat.zero_lt_succ _) (ext_is K10.2.1 (Nat.zero_lt_succ _) (ext_is K6.2 (Nat.zero_lt_succ _) (ext_is K1.2 (Nat.zero_lt_succ _) n_a0))))
  refine gd_c f13 ?_
  have f14 := (tN_27 K12.1.1 (ext_is K12.2 (Nat.zero_lt_succ _) (ext_is K10.2.1 (Nat.zero_lt_succ _) (ext_is K6.2 (Nat.zero_lt_succ _) (ext_is K1.2 (Nat.zero_lt_succ _) n_a0)))))
  refine gd_c f14 ?_
  have f18 := (tN_27 K12.1.1 (ext_is K12.2 (Nat.zero_lt_succ _) (ext_is K10.2.1 (Nat.zero_lt_succ _) (ext_is K6.2 (Nat.zero_lt_succ _) (ext_is K1.2 (Nat.zero_lt_succ _) n_a0)))))
  refine gd_b (gX78_put _ _ _ _ ⟨K12.1.1, K12.1.2⟩ f18 ) (fun K15 => ?_)
  have f16 := (ext_is K15.2 (Nat.zero_lt_succ _) (ext_is K12.2 (Nat.zero_lt_succ _) (ext_is K10.2.1 (Nat.zero_lt_succ _) (ext_is K6.2 (Nat.zero_lt_succ _) (ext_is K1.2 (Nat.zero_lt_succ _) n_a0)))))
  refine gd_c f16 ?_
  have f17 := (ext_is K15.2 (Nat.zero_lt_succ _) (ext_is K12.2 (Nat.zero_lt_succ _) (ext_is K10.2.1 (Nat.zero_lt_succ _) (ext_is K6.2 (Nat.zero_lt_succ _) (ext_is K1.2 (Nat.zero_lt_succ _) n_a0)))))
  exact gd_tR (ext_tr K1.2 (ext_dL (ext_tr K6.2 (ext_tr K10.2.1 (ext_tr K12.2 (ext_tr K15.2 (ext_dI (ext_r _)))))))) (gX74_trap_173 _ _ ⟨K15.1.1, (tyb_sI (f := 37) rfl K15.1.2)⟩ f17 )
noncomputable def GX74_trap_77 (a0 : Nat) (s0 : Nat) (s1 : Int32) (s2 : Int32) (M : FM) : Int64 × FM :=
  let M1 : FM := GX78_put s0 s1 s2 M
  let x2 : Nat := (M1.2.2 27 a0 0)
  let r3 : Int32 × FM := GX78_has x2 (Int32.ofInt 1) M1
  let x4 : Nat := (M1.2.2 27 a0 0)
  let M5 : FM := GX78_put x4 (Int32.ofInt 5) r3.1 r3.2
  let x6 : Nat := (M5.2.2 27 a0 0)
  let M7 : FM := GX78_put x6 (Int32.ofInt 1) (Int32.ofInt 0) M5
  let M8 : FM := fm_sI M7 37 a0 0 (Int32.ofInt 1)
  GX74_trap_173 a0 M8
theorem gX74_trap_77 (a0 : Nat) (s0 : Nat) (s1 : Int32) (s2 : Int32) (M : FM) (T : Ty M) (n_s0 : fm_is M 16 16 s0 = true) (n_a0 : fm_is M 12 12 a0 = true) : gd (FX74_trap_77 a0 s0 s1 s2 M) (GX74_trap_77 a0 s0 s1 s2 M) (OkR M) := by
  delta FX74_trap_77 BX74_trap_77
  refine gd_c n_s0 ?_
  refine gd_b (gX78_put _ _ _ _ ⟨T.1, T.2⟩ n_s0 ) (fun K0 => ?_)
  have f1 := (ext_is K0.2 (Nat.zero_lt_succ _) n_a0)
  refine gd_c f1 ?_
  have f2 := (ext_is K0.2 (Nat.zero_lt_succ _) n_a0)
  refine gd_c f2 ?_
  have f3 := (tN_27 K0.1.1 (ext_is K0.2 (Nat.zero_lt_succ _) n_a0))
  refine gd_c f3 ?_
  have f14 := (tN_27 K0.1.1 (ext_is K0.2 (Nat.zero_lt_succ _) n_a0))
  refine gd_b (gX78_has _ _ _ ⟨K0.1.1, K0.1.2⟩ f14 ) (fun K4 => ?_)
  have f5 := (ext_is K4.2.1 (Nat.zero_lt_succ _) (tN_27 K0.1.1 (ext_is K0.2 (Nat.zero_lt_succ _) n_a0)))
  refine gd_c f5 ?_
  have f13 := (ext_is K4.2.1 (Nat.zero_lt_succ _) (tN_27 K0.1.1 (ext_is K0.2 (Nat.zero_lt_succ _) n_a0)))
  refine gd_b (gX78_put _ _ _ _ ⟨K4.1.1, K4.1.2⟩ f13 ) (fun K6 => ?_)
  have f7 := (ext_is K6.2 (Nat.zero_lt_succ _) (ext_is K4.2.1 (Nat.zero_lt_succ _) (ext_is K0.2 (Nat.zero_lt_succ _) n_a0)))
  refine gd_c f7 ?_
  have f8 := (tN_27 K6.1.1 (ext_is K6.2 (Nat.zero_lt_succ _) (ext_is K4.2.1 (Nat.zero_lt_succ _) (ext_is K0.2 (Nat.zero_lt_succ _) n_a0))))
  refine gd_c f8 ?_
  have f12 := (tN_27 K6.1.1 (ext_is K6.2 (Nat.zero_lt_succ _) (ext_is K4.2.1 (Nat.zero_lt_succ _) (ext_is K0.2 (Nat.zero_lt_succ _) n_a0))))
  refine gd_b (gX78_put _ _ _ _ ⟨K6.1.1, K6.1.2⟩ f12 ) (fun K9 => ?_)
  have f10 := (ext_is K9.2 (Nat.zero_lt_succ _) (ext_is K6.2 (Nat.zero_lt_succ _) (ext_is K4.2.1 (Nat.zero_lt_succ _) (ext_is K0.2 (Nat.zero_lt_succ _) n_a0))))
  refine gd_c f10 ?_
  have f11 := (ext_is K9.2 (Nat.zero_lt_succ _) (ext_is K6.2 (Nat.zero_lt_succ _) (ext_is K4.2.1 (Nat.zero_lt_succ _) (ext_is K0.2 (Nat.zero_lt_succ _) n_a0))))
  exact gd_tR (ext_tr K0.2 (ext_tr K4.2.1 (ext_tr K6.2 (ext_tr K9.2 (ext_dI (ext_r _)))))) (gX74_trap_173 _ _ ⟨K9.1.1, (tyb_sI (f := 37) rfl K9.1.2)⟩ f11 )
noncomputable def GX74_trap_21 (a0 : Nat) (a1 : Int32) (a2 : Int32) (a3 : Int64) (a5 : Int64) (s0 : Int64) (M : FM) : Int64 × FM :=
  fi ((M.1 37 a0 0) = (Int32.ofInt 3)) (
    GX74_trap_113 a0 a1 a2 a3 a5 M) (
    fi ((lg_cmp ((s0 >>> (a2.toInt64 &&& 63)) &&& (Int64.ofInt 1)) (Int64.ofInt 1)) = 0) (
      let x1 : Nat := (M.2.2 33 a0 0)
      let r2 : Int64 × FM := GX80_take x1 a1 a2 a3 a5 M
      let M3 : FM := fm_sL r2.2 39 a0 0 r2.1
      fi ((M3.1 37 a0 0) = (Int32.ofInt 1)) (
        GX74_trap_77 a0 (M3.2.2 27 a0 0) (Int32.ofInt 8) (Int32.ofInt 1) M3) (
        GX74_trap_77 a0 (M3.2.2 27 a0 0) (Int32.ofInt 8) (Int32.ofInt 0) M3)) (
      GX74_trap_113 a0 a1 a2 a3 a5 M))
theorem gX74_trap_21 (a0 : Nat) (a1 : Int32) (a2 : Int32) (a3 : Int64) (a5 : Int64) (s0 : Int64) (M : FM) (T : Ty M) (n_a0 : fm_is M 12 12 a0 = true) : gd (FX74_trap_21 a0 a1 a2 a3 a5 s0 M) (GX74_trap_21 a0 a1 a2 a3 a5 s0 M) (OkR M) := by
  delta FX74_trap_21 BX74_trap_21
  refine gd_c n_a0 ?_
  refine gd_fi (fun c0_0 => ?_) (fun c0_0 => ?_)
  · exact gd_tR (ext_r _) (gX74_trap_113 _ _ _ _ _ _ ⟨T.1, T.2⟩ n_a0 )
  · refine gd_fi (fun c1_0 => ?_) (fun c1_0 => ?_)
    · refine gd_c n_a0 ?_
      have f2 := (tN_33 T.1 n_a0)
      refine gd_c f2 ?_
      have f12 := (tN_33 T.1 n_a0)
      refine gd_b (gX80_take _ _ _ _ _ _ ⟨T.1, T.2⟩ f12 ) (fun K3 => ?_)
      have f4 := (ext_is K3.2 (Nat.zero_lt_succ _) n_a0)
      refine gd_c f4 ?_
      have f5 := (ext_is K3.2 (Nat.zero_lt_succ _) n_a0)
      refine gd_c f5 ?_
      have f6 := (ext_is K3.2 (Nat.zero_lt_succ _) n_a0)
      refine gd_c f6 ?_
      refine gd_fi (fun c7_0 => ?_) (fun c7_0 => ?_)
      · have f8 := (tN_27 K3.1.1 (ext_is K3.2 (Nat.zero_lt_succ _) n_a0))
        have f9 := (ext_is K3.2 (Nat.zero_lt_succ _) n_a0)
        exact gd_tR (ext_tr K3.2 (ext_dL (ext_r _))) (gX74_trap_77 _ _ _ _ _ ⟨K3.1.1, K3.1.2⟩ f8 f9 )
      · have f10 := (tN_27 K3.1.1 (ext_is K3.2 (Nat.zero_lt_succ _) n_a0))
        have f11 := (ext_is K3.2 (Nat.zero_lt_succ _) n_a0)
        exact gd_tR (ext_tr K3.2 (ext_dL (ext_r _))) (gX74_trap_77 _ _ _ _ _ ⟨K3.1.1, K3.1.2⟩ f10 f11 )
    · exact gd_tR (ext_r _) (gX74_trap_113 _ _ _ _ _ _ ⟨T.1, T.2⟩ n_a0 )
noncomputable def GX74_trap_0 (a0 : Nat) (a1 : Int32) (a2 : Int32) (a3 : Int64) (a5 : Int64) (M : FM) : Int64 × FM :=
  fi (a1 = 0) (
    let x1 : Nat := (M.2.2 28 a0 0)
    let r2 : Int64 × FM := (fi (fm_is M 14 14 x1 = true) (GX77_show x1 M) ((fi (fm_is M 15 15 x1 = true) (GX79_show x1 M) ((fi (fm_is M 16 16 x1 = true) (GX78_show x1 M) (GX77_show x1 M))))))
    GX74_trap_21 a0 a1 a2 a3 a5 r2.1 r2.2) (
    let x3 : Nat := (M.2.2 29 a0 0)
    let r4 : Int64 × FM := (fi (fm_is M 14 14 x3 = true) (GX77_show x3 M) ((fi (fm_is M 15 15 x3 = true) (GX79_show x3 M) ((fi (fm_is M 16 16 x3 = true) (GX78_show x3 M) (GX77_show x3 M))))))
    GX74_trap_21 a0 a1 a2 a3 a5 r4.1 r4.2)
theorem gX74_trap_0 (a0 : Nat) (a1 : Int32) (a2 : Int32) (a3 : Int64) (a5 : Int64) (M : FM) (T : Ty M) (n_a0 : fm_is M 12 12 a0 = true) : gd (FX74_trap_0 a0 a1 a2 a3 a5 M) (GX74_trap_0 a0 a1 a2 a3 a5 M) (OkR M) := by
  delta FX74_trap_0 BX74_trap_0
  refine gd_fi (fun c0_0 => ?_) (fun c0_0 => ?_)
  · refine gd_c n_a0 ?_
    have f1 := (tN_28 T.1 n_a0)
    refine gd_kb (gk_fi (gk_b _ _) (gk_fi (gk_b _ _) (gk_fi (gk_b _ _) (gk_fi (gk_b _ _) gk_0)))) (gd_fi (fun c2 => (gX77_show _ _ ⟨T.1, T.2⟩ (fm_w (lo' := 14) (hi' := 17) rfl rfl c2) )) (fun c2 => (gd_fi (fun c3 => (gX79_show _ _ ⟨T.1, T.2⟩ c3 )) (fun c3 => (gd_fi (fun c4 => (gX78_show _ _ ⟨T.1, T.2⟩ c4 )) (fun c4 => (gd_c (fm_up (fm_up (fm_up f1 c2) c3) c4) (gX77_show _ _ ⟨T.1, T.2⟩ (fm_w (lo' := 14) (hi' := 17) rfl rfl (fm_up (fm_up (fm_up f1 c2) c3) c4)) )))))))) (fun K5 => ?_)
    have f6 := (ext_is K5.2 (Nat.zero_lt_succ _) n_a0)
    exact gd_tR K5.2 (gX74_trap_21 _ _ _ _ _ _ _ ⟨K5.1.1, K5.1.2⟩ f6 )
  · refine gd_c n_a0 ?_
    have f7 := (tN_29 T.1 n_a0)
    refine gd_kb (gk_fi (gk_b _ _) (gk_fi (gk_b _ _) (gk_fi (gk_b _ _) (gk_fi (gk_b _ _) gk_0)))) (gd_fi (fun c8 => (gX77_show _ _ ⟨T.1, T.2⟩ (fm_w (lo' := 14) (hi' := 17) rfl rfl c8) )) (fun c8 => (gd_fi (fun c9 => (gX79_show _ _ ⟨T.1, T.2⟩ c9 )) (fun c9 => (gd_fi (fun c10 => (gX78_show _ _ ⟨T.1, T.2⟩ c10 )) (fun c10 => (gd_c (fm_up (fm_up (fm_up f7 c8) c9) c10) (gX77_show _ _ ⟨T.1, T.2⟩ (fm_w (lo' := 14) (hi' := 17) rfl rfl (fm_up (fm_up (fm_up f7 c8) c9) c10)) )))))))) (fun K11 => ?_)
    have f12 := (ext_is K11.2 (Nat.zero_lt_succ _) n_a0)
    exact gd_tR K11.2 (gX74_trap_21 _ _ _ _ _ _ _ ⟨K11.1.1, K11.1.2⟩ f12 )
noncomputable def GX74_trap (a0 : Nat) (a1 : Int32) (a2 : Int32) (a3 : Int64) (a5 : Int64) (M : FM) : Int64 × FM := GX74_trap_0 a0 a1 a2 a3 a5 M
theorem gX74_trap (a0 : Nat) (a1 : Int32) (a2 : Int32) (a3 : Int64) (a5 : Int64) (M : FM) (T : Ty M) (n_a0 : fm_is M 12 12 a0 = true) : gd (FX74_trap a0 a1 a2 a3 a5 M) (GX74_trap a0 a1 a2 a3 a5 M) (OkR M) := gX74_trap_0 a0 a1 a2 a3 a5 M T n_a0 
noncomputable def GX46_raise_0 (a0 : Nat) (a1 : Int32) (a2 : Int64) (M : FM) : Int32 × FM :=
  let r1 : Int64 × FM := GX46_counter a0 M
  let x2 : Nat := (M.2.2 213 a0 0)
  let r3 : Int64 × FM := GX74_trap x2 (Int32.ofInt 0) a1 a2 r1.1 r1.2
  let x4 : Nat := (M.2.2 211 a0 0)
  let M5 : FM := GX47_jump x4 r3.1 r3.2
  ((Int32.ofInt 0), M5)
theorem gX46_raise_0 (a0 : Nat) (a1 : Int32) (a2 : Int64) (M : FM) (T : Ty M) (n_a0 : fm_is M 75 75 a0 = true) : gd (FX46_raise_0 a0 a1 a2 M) (GX46_raise_0 a0 a1 a2 M) (OkZ M) := by
  delta FX46_raise_0 BX46_raise_0
  refine gd_c n_a0 ?_
  refine gd_c n_a0 ?_
  refine gd_c n_a0 ?_
  refine gd_b (gX46_counter _ _ ⟨T.1, T.2⟩ n_a0 ) (fun K0 => ?_)
  have f1 := (ext_is K0.2 (Nat.zero_lt_succ _) (tN_213 T.1 n_a0))
  refine gd_c f1 ?_
  have f6 := (ext_is K0.2 (Nat.zero_lt_succ _) (tN_213 T.1 n_a0))
  refine gd_b (gX74_trap _ _ _ _ _ _ ⟨K0.1.1, K0.1.2⟩ f6 ) (fun K2 => ?_)
  have f3 := (ext_is K2.2 (Nat.zero_lt_succ _) (ext_is K0.2 (Nat.zero_lt_succ _) (tN_211 T.1 n_a0)))
  refine gd_c f3 ?_
  have f5 := (ext_is K2.2 (Nat.zero_lt_succ _) (ext_is K0.2 (Nat.zero_lt_succ _) (tN_211 T.1 n_a0)))
  refine gd_b (gX47_jump _ _ _ ⟨K2.1.1, K2.1.2⟩ f5 ) (fun K4 => ?_)
  exact gd_z fz_0 ⟨K4.1.1, K4.1.2⟩ (ext_tr K0.2 (ext_tr K2.2 K4.2)) rfl
noncomputable def GX46_raise (a0 : Nat) (a1 : Int32) (a2 : Int64) (M : FM) : Int32 × FM := GX46_raise_0 a0 a1 a2 M
theorem gX46_raise (a0 : Nat) (a1 : Int32) (a2 : Int64) (M : FM) (T : Ty M) (n_a0 : fm_is M 75 75 a0 = true) : gd (FX46_raise a0 a1 a2 M) (GX46_raise a0 a1 a2 M) (OkZ M) := gX46_raise_0 a0 a1 a2 M T n_a0 
noncomputable def GX46_half_65 (a2 : Int64) (s0 : Nat) (s1 : Int32) (M : FM) : Int64 × FM :=
  let r1 : Int32 × FM := GX46_raise s0 s1 a2 M
  ((Int64.ofInt (-1)), r1.2)
theorem gX46_half_65 (a2 : Int64) (s0 : Nat) (s1 : Int32) (M : FM) (T : Ty M) (n_s0 : fm_is M 75 75 s0 = true) : gd (FX46_half_65 fN a2 s0 s1 M) (GX46_half_65 a2 s0 s1 M) (OkR M) := by
  delta FX46_half_65 BX46_half_65
  refine gd_c n_s0 ?_
  refine gd_b (gX46_raise _ _ _ _ ⟨T.1, T.2⟩ n_s0 ) (fun K0 => ?_)
  exact ⟨rfl, ⟨K0.1.1, K0.1.2⟩, K0.2.1⟩
noncomputable def GX46_half_49 (a0 : Nat) (a2 : Int64) (a4 : Int64) (M : FM) : Int64 × FM :=
  fi (0 ≤ (lg_cmp a4 (Int64.ofInt 0))) (
    GX46_half_65 a2 a0 (Int32.ofInt 1) M) (
    GX46_half_65 a2 a0 ((-a4).toInt32) M)
theorem gX46_half_49 (a0 : Nat) (a2 : Int64) (a4 : Int64) (M : FM) (T : Ty M) (n_a0 : fm_is M 75 75 a0 = true) : gd (FX46_half_49 fN a0 a2 a4 M) (GX46_half_49 a0 a2 a4 M) (OkR M) := by
  delta FX46_half_49 BX46_half_49
  refine gd_fi (fun c0_0 => ?_) (fun c0_0 => ?_)
  · exact gd_tR (ext_r _) (gX46_half_65 _ _ _ _ ⟨T.1, T.2⟩ n_a0 )
  · exact gd_tR (ext_r _) (gX46_half_65 _ _ _ _ ⟨T.1, T.2⟩ n_a0 )
noncomputable def GX46_half_0 (a0 : Nat) (a1 : Int32) (M : FM) : Int64 × FM :=
  let r1 : Int64 × FM := GX46_counter a0 M
  let x2 : Int64 := (r1.1 + a1.toInt64)
  let x3 : Nat := (r1.2.2.2 213 a0 0)
  let r4 : Int64 × FM := GX46_find a0 x2 (Int32.ofInt 0) (r1.2.1 37 x3 0) (Int32.ofInt 2) r1.2
  fi ((lg_cmp r4.1 (Int64.ofInt 0)) < 0) (
    GX46_half_49 a0 x2 r4.1 r4.2) (
    let x5 : Nat := (r4.2.2.2 210 a0 0)
    let x6 : Nat := (r4.2.2.2 18 x5 0)
    let r7 : Int32 × FM := GX11_has x6 r4.1 (Int64.ofInt 2) r4.2
    fi (r7.1 = 0) (
      GX46_half_49 a0 x2 r4.1 r7.2) (
      (r4.1, r7.2)))
def HX46_half_0 (a0 : Nat) (a1 : Int32) (M : FM) : Prop := let r1 : Int64 × FM := GX46_counter a0 M; let x2 : Int64 := (r1.1 + a1.toInt64); let x3 : Nat := (r1.2.2.2 213 a0 0); (HX46_find a0 x2 (Int32.ofInt 0) (r1.2.1 37 x3 0) (Int32.ofInt 2) r1.2 ∧ True)
theorem gX46_half_0 (a0 : Nat) (a1 : Int32) (M : FM) (T : Ty M) (n_a0 : fm_is M 75 75 a0 = true) (h : HX46_half_0 a0 a1 M) : gd (FX46_half_0 fN a0 a1 M) (GX46_half_0 a0 a1 M) (OkR M) := by
  delta FX46_half_0 BX46_half_0
  refine gd_c n_a0 ?_
  refine gd_b (gX46_counter _ _ ⟨T.1, T.2⟩ n_a0 ) (fun K0 => ?_)
  have f1 := (ext_is K0.2 (Nat.zero_lt_succ _) n_a0)
  refine gd_c f1 ?_
  have f2 := (tN_213 K0.1.1 (ext_is K0.2 (Nat.zero_lt_succ _) n_a0))
  refine gd_c f2 ?_
  have f3 := (ext_is K0.2 (Nat.zero_lt_succ _) n_a0)
  refine gd_c f3 ?_
  have f14 := (ext_is K0.2 (Nat.zero_lt_succ _) n_a0)
  refine gd_b (gX46_find _ _ _ _ _ _ ⟨K0.1.1, K0.1.2⟩ f14 h.1) (fun K4 => ?_)
  refine gd_fi (fun c5_0 => ?_) (fun c5_0 => ?_)
  · have f6 := (ext_is K4.2 (Nat.zero_lt_succ _) (ext_is K0.2 (Nat.zero_lt_succ _) n_a0))
    exact gd_tR (ext_tr K0.2 K4.2) (gX46_half_49 _ _ _ _ ⟨K4.1.1, K4.1.2⟩ f6 )
  · have f7 := (ext_is K4.2 (Nat.zero_lt_succ _) (ext_is K0.2 (Nat.zero_lt_succ _) n_a0))
    refine gd_c f7 ?_
    have f8 := (tN_210 K4.1.1 (ext_is K4.2 (Nat.zero_lt_succ _) (ext_is K0.2 (Nat.zero_lt_succ _) n_a0)))
    refine gd_c f8 ?_
    have f9 := (tN_18 K4.1.1 (tN_210 K4.1.1 (ext_is K4.2 (Nat.zero_lt_succ _) (ext_is K0.2 (Nat.zero_lt_succ _) n_a0))))
    refine gd_c f9 ?_
    have f13 := (tN_18 K4.1.1 (tN_210 K4.1.1 (ext_is K4.2 (Nat.zero_lt_succ _) (ext_is K0.2 (Nat.zero_lt_succ _) n_a0))))
    refine gd_b (gX11_has _ _ _ _ ⟨K4.1.1, K4.1.2⟩ f13 ) (fun K10 => ?_)
    refine gd_fi (fun c11_0 => ?_) (fun c11_0 => ?_)
    · have f12 := (ext_is K10.2.1 (Nat.zero_lt_succ _) (ext_is K4.2 (Nat.zero_lt_succ _) (ext_is K0.2 (Nat.zero_lt_succ _) n_a0)))
      exact gd_tR (ext_tr K0.2 (ext_tr K4.2 K10.2.1)) (gX46_half_49 _ _ _ _ ⟨K10.1.1, K10.1.2⟩ f12 )
    · exact ⟨rfl, ⟨K10.1.1, K10.1.2⟩, (ext_tr K0.2 (ext_tr K4.2 K10.2.1))⟩
noncomputable def GX46_half (a0 : Nat) (a1 : Int32) (M : FM) : Int64 × FM := GX46_half_0 a0 a1 M
def HX46_half (a0 : Nat) (a1 : Int32) (M : FM) : Prop := HX46_half_0 a0 a1 M
theorem gX46_half (a0 : Nat) (a1 : Int32) (M : FM) (T : Ty M) (n_a0 : fm_is M 75 75 a0 = true) (h : HX46_half a0 a1 M) : gd (FX46_half fN a0 a1 M) (GX46_half a0 a1 M) (OkR M) := gX46_half_0 a0 a1 M T n_a0 h
noncomputable def GX103_bits_0 (a0 : Int32) (a1 : Int32) (a2 : Int32) (M : FM) : Int32 × FM :=
  (((a0 <<< (((Int32.ofInt 31) - a1) &&& 31)).toUInt32 >>> ((((Int32.ofInt 31) - a1) + a2).toUInt32 &&& Int32.toUInt32 31)).toInt32, M)
theorem gX103_bits_0 (a0 : Int32) (a1 : Int32) (a2 : Int32) (M : FM) (T : Ty M) : gd (FX103_bits_0 a0 a1 a2 M) (GX103_bits_0 a0 a1 a2 M) (OkR M) := by
  delta FX103_bits_0 BX103_bits_0
  exact ⟨rfl, ⟨T.1, T.2⟩, (ext_r _)⟩
noncomputable def GX103_bits (a0 : Int32) (a1 : Int32) (a2 : Int32) (M : FM) : Int32 × FM := GX103_bits_0 a0 a1 a2 M
theorem gX103_bits (a0 : Int32) (a1 : Int32) (a2 : Int32) (M : FM) (T : Ty M) : gd (FX103_bits a0 a1 a2 M) (GX103_bits a0 a1 a2 M) (OkR M) := gX103_bits_0 a0 a1 a2 M T 
def kX35_read (k4 : Nat → Int32 → Int32 → Int32 → FM → Option (Int32 × FM)) : (Nat × Int32 × Int32 × Int32 × FM) ⊕ (Int32 × FM) → Option (Int32 × FM)
  | .inl (v0, v1, v2, v3, M') => k4 v0 v1 v2 v3 M'
  | .inr (r) => some r
def pX35_read (M : FM) : (Nat × Int32 × Int32 × Int32 × FM) ⊕ (Int32 × FM) → Prop
  | .inl (_, _, _, _, M') => OkV M M'
  | .inr (r) => OkR M r
theorem pX35_read_t {M M1 : FM} (e : Ext M M1) : ∀ y, pX35_read M1 y → pX35_read M y
  | .inl (_, _, _, _, _), h => ⟨h.1, ext_tr e h.2⟩
  | .inr (r), h => ⟨h.1, ext_tr e h.2⟩
noncomputable def GX35_read_86 (s0 : Int32) (M : FM) : (Nat × Int32 × Int32 × Int32 × FM) ⊕ (Int32 × FM) :=
  (.inr (s0, M))
theorem gX35_read_86 (k4 : Nat → Int32 → Int32 → Int32 → FM → Option (Int32 × FM)) (s0 : Int32) (M : FM) (T : Ty M) : gs (FX35_read_86 fN k4 s0 M) (GX35_read_86 s0 M) (kX35_read k4) (pX35_read M) := by
  delta FX35_read_86 BX35_read_86
  exact And.intro rfl (And.intro (And.intro T.1 T.2) ((ext_r _)))
noncomputable def GX35_read_0 (a0 : Nat) (a1 : Int32) (M : FM) : (Nat × Int32 × Int32 × Int32 × FM) ⊕ (Int32 × FM) :=
  (.inl (a0, a1, (Int32.ofInt 0), (Int32.ofInt 0), M))
theorem gX35_read_0 (k4 : Nat → Int32 → Int32 → Int32 → FM → Option (Int32 × FM)) (a0 : Nat) (a1 : Int32) (M : FM) (T : Ty M) : gs (FX35_read_0 fN k4 a0 a1 M) (GX35_read_0 a0 a1 M) (kX35_read k4) (pX35_read M) := by
  delta FX35_read_0 BX35_read_0
  exact And.intro rfl (And.intro (And.intro T.1 T.2) ((ext_r _)))
noncomputable def GX35_read_4 (a0 : Nat) (a1 : Int32) (a2 : Int32) (a3 : Int32) (M : FM) : (Nat × Int32 × Int32 × Int32 × FM) ⊕ (Int32 × FM) :=
  let x1 : Nat := (M.2.2 125 a0 0)
  fi ((Int32.ofNat (M.2.2 1 x1 0)) ≤ a3) (
    fi ((M.1 126 a0 0) = 0) (
      GX35_read_86 a2 M) (
      GX35_read_86 ((a2 <<< (((Int32.ofInt 31) - (M.1 126 a0 0)) &&& 31)) >>> (((Int32.ofInt 31) - (M.1 126 a0 0)) &&& 31)) M)) (
    let x2 : Nat := (M.2.2 125 a0 0)
    let x3 : Int32 := (a3 + (Int32.ofInt 2))
    let x4 : Nat := (M.2.2 125 a0 0)
    let x5 : Nat := (M.2.2 125 a0 0)
    let r6 : Int32 × FM := GX103_bits a1 (((M.1 3 x2 a3.toNatClampNeg) + (M.1 3 x4 x3.toNatClampNeg)) - (Int32.ofInt 1)) (M.1 3 x5 a3.toNatClampNeg) M
    let x7 : Int32 := (a3 + (Int32.ofInt 1))
    let x8 : Nat := (r6.2.2.2 125 a0 0)
    let x9 : Int32 := (a2 ||| (r6.1 <<< ((r6.2.1 3 x8 x7.toNatClampNeg) &&& 31)))
    let x10 : Int32 := a3 + (Int32.ofInt 3)
    (.inl (a0, a1, x9, x10, r6.2)))
def HX35_read_4 (a0 : Nat) (a1 : Int32) (a2 : Int32) (a3 : Int32) (M : FM) : Prop := let x1 : Nat := (M.2.2 125 a0 0); (((Int32.ofNat (M.2.2 1 x1 0)) ≤ a3 → True) ∧ (¬ ((Int32.ofNat (M.2.2 1 x1 0)) ≤ a3) → let x2 : Nat := (M.2.2 125 a0 0); (fm_in M x2 a3 = true ∧ let x3 : Int32 := (a3 + (Int32.ofInt 2)); let x4 : Nat := (M.2.2 125 a0 0); (fm_in M x4 x3 = true ∧ let x5 : Nat := (M.2.2 125 a0 0); (fm_in M x5 a3 = true ∧ let r6 : Int32 × FM := GX103_bits a1 (((M.1 3 x2 a3.toNatClampNeg) + (M.1 3 x4 x3.toNatClampNeg)) - (Int32.ofInt 1)) (M.1 3 x5 a3.toNatClampNeg) M; let x7 : Int32 := (a3 + (Int32.ofInt 1)); let x8 : Nat := (r6.2.2.2 125 a0 0); (fm_in r6.2 x8 x7 = true ∧ True))))))
theorem gX35_read_4 (k4 : Nat → Int32 → Int32 → Int32 → FM → Option (Int32 × FM)) (a0 : Nat) (a1 : Int32) (a2 : Int32) (a3 : Int32) (M : FM) (T : Ty M) (n_a0 : fm_is M 42 42 a0 = true) (h : HX35_read_4 a0 a1 a2 a3 M) : gs (FX35_read_4 fN k4 a0 a1 a2 a3 M) (GX35_read_4 a0 a1 a2 a3 M) (kX35_read k4) (pX35_read M) := by
  delta FX35_read_4 BX35_read_4
  refine gs_c n_a0 ?_
  have f0 := (fm_w (lo' := 901) (hi' := 990) rfl rfl (tN_125 T.1 n_a0))
  refine gs_c f0 ?_
  refine gs_fi (fun c1_0 => ?_) (fun c1_0 => ?_)
  · refine gs_c n_a0 ?_
    refine gs_fi (fun c2_0 => ?_) (fun c2_0 => ?_)
    · exact gs_t (pX35_read_t (ext_r _)) (gX35_read_86 k4 _ _ ⟨T.1, T.2⟩  )
    · refine gs_c n_a0 ?_
      refine gs_c n_a0 ?_
      exact gs_t (pX35_read_t (ext_r _)) (gX35_read_86 k4 _ _ ⟨T.1, T.2⟩  )
  · refine gs_c n_a0 ?_
    have f8 := (tN_125 T.1 n_a0)
    refine gs_c ⟨f8, (h.2 c1_0).1⟩ ?_
    refine gs_c n_a0 ?_
    have f7 := (tN_125 T.1 n_a0)
    refine gs_c ⟨f7, (h.2 c1_0).2.1⟩ ?_
    refine gs_c n_a0 ?_
    have f6 := (tN_125 T.1 n_a0)
    refine gs_c ⟨f6, (h.2 c1_0).2.2.1⟩ ?_
    refine gs_b (gX103_bits _ _ _ _ ⟨T.1, T.2⟩  ) (fun K3 => ?_)
    have f4 := (ext_is K3.2 (Nat.zero_lt_succ _) n_a0)
    refine gs_c f4 ?_
    have f5 := (tN_125 K3.1.1 (ext_is K3.2 (Nat.zero_lt_succ _) n_a0))
    refine gs_c ⟨f5, (h.2 c1_0).2.2.2.1⟩ ?_
    exact And.intro rfl (And.intro (And.intro K3.1.1 K3.1.2) K3.2)
noncomputable def GX35_read (a0 : Nat) (a1 : Int32) (M : FM) : Int32 × FM := (FX35_read fN a0 a1 M).getD (0, M)
def HX35_read (a0 : Nat) (a1 : Int32) (M : FM) : Prop := ∃ r, FX35_read fN a0 a1 M = some r ∧ OkR M r
theorem gX35_read (a0 : Nat) (a1 : Int32) (M : FM) (h : HX35_read a0 a1 M) : gd (FX35_read fN a0 a1 M) (GX35_read a0 a1 M) (OkR M) := gd_op h
noncomputable def GX36_s_0 (a0 : Int32) (M : FM) : Int32 × FM :=
  let r1 : Int32 × FM := GX103_bits a0 (Int32.ofInt 4) (Int32.ofInt 2) M
  (((Int32.ofInt 8) + r1.1), r1.2)
theorem gX36_s_0 (a0 : Int32) (M : FM) (T : Ty M) : gd (FX36_s_0 a0 M) (GX36_s_0 a0 M) (OkR M) := by
  delta FX36_s_0 BX36_s_0
  refine gd_b (gX103_bits _ _ _ _ ⟨T.1, T.2⟩  ) (fun K0 => ?_)
  exact ⟨rfl, ⟨K0.1.1, K0.1.2⟩, K0.2⟩
noncomputable def GX36_s (a0 : Int32) (M : FM) : Int32 × FM := GX36_s_0 a0 M
theorem gX36_s (a0 : Int32) (M : FM) (T : Ty M) : gd (FX36_s a0 M) (GX36_s a0 M) (OkR M) := gX36_s_0 a0 M T 
noncomputable def GX36_p_0 (a0 : Int32) (M : FM) : Int32 × FM :=
  let r1 : Int32 × FM := GX103_bits a0 (Int32.ofInt 9) (Int32.ofInt 7) M
  (((Int32.ofInt 8) + r1.1), r1.2)
theorem gX36_p_0 (a0 : Int32) (M : FM) (T : Ty M) : gd (FX36_p_0 a0 M) (GX36_p_0 a0 M) (OkR M) := by
  delta FX36_p_0 BX36_p_0
  refine gd_b (gX103_bits _ _ _ _ ⟨T.1, T.2⟩  ) (fun K0 => ?_)
  exact ⟨rfl, ⟨K0.1.1, K0.1.2⟩, K0.2⟩
noncomputable def GX36_p (a0 : Int32) (M : FM) : Int32 × FM := GX36_p_0 a0 M
theorem gX36_p (a0 : Int32) (M : FM) (T : Ty M) : gd (FX36_p a0 M) (GX36_p a0 M) (OkR M) := gX36_p_0 a0 M T 
noncomputable def GX103_ofS_0 (a0 : Int32) (a1 : Int32) (a2 : Int32) (a3 : Int32) (a4 : Int32) (M : FM) : Int32 × FM :=
  let r1 : Int32 × FM := GX103_bits a4 (Int32.ofInt 4) (Int32.ofInt 0) M
  let r2 : Int32 × FM := GX103_bits a4 (Int32.ofInt 11) (Int32.ofInt 5) r1.2
  ((((((a0 ||| (r1.1 <<< ((Int32.ofInt 7) &&& 31))) ||| (a1 <<< ((Int32.ofInt 12) &&& 31))) ||| (a2 <<< ((Int32.ofInt 15) &&& 31))) ||| (a3 <<< ((Int32.ofInt 20) &&& 31))) ||| (r2.1 <<< ((Int32.ofInt 25) &&& 31))), r2.2)
theorem gX103_ofS_0 (a0 : Int32) (a1 : Int32) (a2 : Int32) (a3 : Int32) (a4 : Int32) (M : FM) (T : Ty M) : gd (FX103_ofS_0 a0 a1 a2 a3 a4 M) (GX103_ofS_0 a0 a1 a2 a3 a4 M) (OkR M) := by
  delta FX103_ofS_0 BX103_ofS_0
  refine gd_b (gX103_bits _ _ _ _ ⟨T.1, T.2⟩  ) (fun K0 => ?_)
  refine gd_b (gX103_bits _ _ _ _ ⟨K0.1.1, K0.1.2⟩  ) (fun K1 => ?_)
  exact ⟨rfl, ⟨K1.1.1, K1.1.2⟩, (ext_tr K0.2 K1.2)⟩
noncomputable def GX103_ofS (a0 : Int32) (a1 : Int32) (a2 : Int32) (a3 : Int32) (a4 : Int32) (M : FM) : Int32 × FM := GX103_ofS_0 a0 a1 a2 a3 a4 M
theorem gX103_ofS (a0 : Int32) (a1 : Int32) (a2 : Int32) (a3 : Int32) (a4 : Int32) (M : FM) (T : Ty M) : gd (FX103_ofS a0 a1 a2 a3 a4 M) (GX103_ofS a0 a1 a2 a3 a4 M) (OkR M) := gX103_ofS_0 a0 a1 a2 a3 a4 M T 
noncomputable def GX103_ofI_0 (a0 : Int32) (a1 : Int32) (a2 : Int32) (a3 : Int32) (a4 : Int32) (M : FM) : Int32 × FM :=
  (((((a0 ||| (a1 <<< ((Int32.ofInt 7) &&& 31))) ||| (a2 <<< ((Int32.ofInt 12) &&& 31))) ||| (a3 <<< ((Int32.ofInt 15) &&& 31))) ||| (a4 <<< ((Int32.ofInt 20) &&& 31))), M)
theorem gX103_ofI_0 (a0 : Int32) (a1 : Int32) (a2 : Int32) (a3 : Int32) (a4 : Int32) (M : FM) (T : Ty M) : gd (FX103_ofI_0 a0 a1 a2 a3 a4 M) (GX103_ofI_0 a0 a1 a2 a3 a4 M) (OkR M) := by
  delta FX103_ofI_0 BX103_ofI_0
  exact ⟨rfl, ⟨T.1, T.2⟩, (ext_r _)⟩
noncomputable def GX103_ofI (a0 : Int32) (a1 : Int32) (a2 : Int32) (a3 : Int32) (a4 : Int32) (M : FM) : Int32 × FM := GX103_ofI_0 a0 a1 a2 a3 a4 M
theorem gX103_ofI (a0 : Int32) (a1 : Int32) (a2 : Int32) (a3 : Int32) (a4 : Int32) (M : FM) (T : Ty M) : gd (FX103_ofI a0 a1 a2 a3 a4 M) (GX103_ofI a0 a1 a2 a3 a4 M) (OkR M) := gX103_ofI_0 a0 a1 a2 a3 a4 M T 
noncomputable def GX38_make_59 (s0 : Int32) (M : FM) : Int32 × FM :=
  (s0, M)
theorem gX38_make_59 (s0 : Int32) (M : FM) (T : Ty M) : gd (FX38_make_59 fN s0 M) (GX38_make_59 s0 M) (OkR M) := by
  delta FX38_make_59 BX38_make_59
  exact ⟨rfl, ⟨T.1, T.2⟩, (ext_r _)⟩
noncomputable def GX38_make_0 (a0 : Nat) (a1 : Int32) (M : FM) : Int32 × FM :=
  let x1 : Nat := (M.2.2 129 a0 0)
  let r2 : Int32 × FM := GX35_read x1 a1 M
  fi ((r2.2.1 132 a0 0) = 0) (
    let r3 : Int32 × FM := GX36_s a1 r2.2
    let r4 : Int32 × FM := GX36_p a1 r3.2
    let r5 : Int32 × FM := GX103_ofI (r2.2.1 130 a0 0) r3.1 (r3.2.1 131 a0 0) r4.1 r2.1 r4.2
    GX38_make_59 r5.1 r5.2) (
    let r6 : Int32 × FM := GX36_p a1 r2.2
    let r7 : Int32 × FM := GX36_s a1 r6.2
    let r8 : Int32 × FM := GX103_ofS (r2.2.1 130 a0 0) (r2.2.1 131 a0 0) r6.1 r7.1 r2.1 r7.2
    GX38_make_59 r8.1 r8.2)
def HX38_make_0 (a0 : Nat) (a1 : Int32) (M : FM) : Prop := let x1 : Nat := (M.2.2 129 a0 0); (HX35_read x1 a1 M ∧ True)
theorem gX38_make_0 (a0 : Nat) (a1 : Int32) (M : FM) (T : Ty M) (n_a0 : fm_is M 43 43 a0 = true) (h : HX38_make_0 a0 a1 M) : gd (FX38_make_0 fN a0 a1 M) (GX38_make_0 a0 a1 M) (OkR M) := by
  delta FX38_make_0 BX38_make_0
  refine gd_c n_a0 ?_
  have f0 := (tN_129_43 T.1 n_a0)
  refine gd_c f0 ?_
  refine gd_b (gX35_read _ _ _ h.1) (fun K1 => ?_)
  have f2 := (ext_is K1.2 (Nat.zero_lt_succ _) n_a0)
  refine gd_c f2 ?_
  refine gd_fi (fun c3_0 => ?_) (fun c3_0 => ?_)
  · have f4 := (ext_is K1.2 (Nat.zero_lt_succ _) n_a0)
    refine gd_c f4 ?_
    refine gd_b (gX36_s _ _ ⟨K1.1.1, K1.1.2⟩  ) (fun K5 => ?_)
    have f6 := (ext_is K5.2 (Nat.zero_lt_succ _) (ext_is K1.2 (Nat.zero_lt_succ _) n_a0))
    refine gd_c f6 ?_
    refine gd_b (gX36_p _ _ ⟨K5.1.1, K5.1.2⟩  ) (fun K7 => ?_)
    refine gd_b (gX103_ofI _ _ _ _ _ _ ⟨K7.1.1, K7.1.2⟩  ) (fun K8 => ?_)
    exact gd_tR (ext_tr K1.2 (ext_tr K5.2 (ext_tr K7.2 K8.2))) (gX38_make_59 _ _ ⟨K8.1.1, K8.1.2⟩  )
  · have f9 := (ext_is K1.2 (Nat.zero_lt_succ _) n_a0)
    refine gd_c f9 ?_
    have f10 := (ext_is K1.2 (Nat.zero_lt_succ _) n_a0)
    refine gd_c f10 ?_
    refine gd_b (gX36_p _ _ ⟨K1.1.1, K1.1.2⟩  ) (fun K11 => ?_)
    refine gd_b (gX36_s _ _ ⟨K11.1.1, K11.1.2⟩  ) (fun K12 => ?_)
    refine gd_b (gX103_ofS _ _ _ _ _ _ ⟨K12.1.1, K12.1.2⟩  ) (fun K13 => ?_)
    exact gd_tR (ext_tr K1.2 (ext_tr K11.2 (ext_tr K12.2 K13.2))) (gX38_make_59 _ _ ⟨K13.1.1, K13.1.2⟩  )
noncomputable def GX38_make (a0 : Nat) (a1 : Int32) (M : FM) : Int32 × FM := GX38_make_0 a0 a1 M
def HX38_make (a0 : Nat) (a1 : Int32) (M : FM) : Prop := HX38_make_0 a0 a1 M
theorem gX38_make (a0 : Nat) (a1 : Int32) (M : FM) (T : Ty M) (n_a0 : fm_is M 43 43 a0 = true) (h : HX38_make a0 a1 M) : gd (FX38_make fN a0 a1 M) (GX38_make a0 a1 M) (OkR M) := gX38_make_0 a0 a1 M T n_a0 h
noncomputable def GX103_ofB_0 (a0 : Int32) (a1 : Int32) (a2 : Int32) (a3 : Int32) (M : FM) : Int32 × FM :=
  let r1 : Int32 × FM := GX103_bits a3 (Int32.ofInt 11) (Int32.ofInt 11) M
  let r2 : Int32 × FM := GX103_bits a3 (Int32.ofInt 4) (Int32.ofInt 1) r1.2
  let r3 : Int32 × FM := GX103_bits a3 (Int32.ofInt 10) (Int32.ofInt 5) r2.2
  let r4 : Int32 × FM := GX103_bits a3 (Int32.ofInt 12) (Int32.ofInt 12) r3.2
  (((((((((Int32.ofInt 99) ||| (r1.1 <<< ((Int32.ofInt 7) &&& 31))) ||| (r2.1 <<< ((Int32.ofInt 8) &&& 31))) ||| (a0 <<< ((Int32.ofInt 12) &&& 31))) ||| (a1 <<< ((Int32.ofInt 15) &&& 31))) ||| (a2 <<< ((Int32.ofInt 20) &&& 31))) ||| (r3.1 <<< ((Int32.ofInt 25) &&& 31))) ||| (r4.1 <<< ((Int32.ofInt 31) &&& 31))), r4.2)
theorem gX103_ofB_0 (a0 : Int32) (a1 : Int32) (a2 : Int32) (a3 : Int32) (M : FM) (T : Ty M) : gd (FX103_ofB_0 a0 a1 a2 a3 M) (GX103_ofB_0 a0 a1 a2 a3 M) (OkR M) := by
  delta FX103_ofB_0 BX103_ofB_0
  refine gd_b (gX103_bits _ _ _ _ ⟨T.1, T.2⟩  ) (fun K0 => ?_)
  refine gd_b (gX103_bits _ _ _ _ ⟨K0.1.1, K0.1.2⟩  ) (fun K1 => ?_)
  refine gd_b (gX103_bits _ _ _ _ ⟨K1.1.1, K1.1.2⟩  ) (fun K2 => ?_)
  refine gd_b (gX103_bits _ _ _ _ ⟨K2.1.1, K2.1.2⟩  ) (fun K3 => ?_)
  exact ⟨rfl, ⟨K3.1.1, K3.1.2⟩, (ext_tr K0.2 (ext_tr K1.2 (ext_tr K2.2 K3.2)))⟩
noncomputable def GX103_ofB (a0 : Int32) (a1 : Int32) (a2 : Int32) (a3 : Int32) (M : FM) : Int32 × FM := GX103_ofB_0 a0 a1 a2 a3 M
theorem gX103_ofB (a0 : Int32) (a1 : Int32) (a2 : Int32) (a3 : Int32) (M : FM) (T : Ty M) : gd (FX103_ofB a0 a1 a2 a3 M) (GX103_ofB a0 a1 a2 a3 M) (OkR M) := gX103_ofB_0 a0 a1 a2 a3 M T 
noncomputable def GX43_make_0 (a0 : Nat) (a1 : Int32) (M : FM) : Int32 × FM :=
  let r1 : Int32 × FM := GX36_p a1 M
  let x2 : Nat := (r1.2.2.2 129 a0 0)
  let r3 : Int32 × FM := GX35_read x2 a1 r1.2
  let r4 : Int32 × FM := GX103_ofB ((M.1 128 a0 0) - (Int32.ofInt 6)) r1.1 (Int32.ofInt 0) r3.1 r3.2
  (r4.1, r4.2)
def HX43_make_0 (a0 : Nat) (a1 : Int32) (M : FM) : Prop := let r1 : Int32 × FM := GX36_p a1 M; let x2 : Nat := (r1.2.2.2 129 a0 0); (HX35_read x2 a1 r1.2 ∧ True)
theorem gX43_make_0 (a0 : Nat) (a1 : Int32) (M : FM) (T : Ty M) (n_a0 : fm_is M 44 44 a0 = true) (h : HX43_make_0 a0 a1 M) : gd (FX43_make_0 fN a0 a1 M) (GX43_make_0 a0 a1 M) (OkR M) := by
  delta FX43_make_0 BX43_make_0
  refine gd_c n_a0 ?_
  refine gd_b (gX36_p _ _ ⟨T.1, T.2⟩  ) (fun K0 => ?_)
  have f1 := (ext_is K0.2 (Nat.zero_lt_succ _) n_a0)
  refine gd_c f1 ?_
  have f2 := (tN_129_44 K0.1.1 (ext_is K0.2 (Nat.zero_lt_succ _) n_a0))
  refine gd_c f2 ?_
  refine gd_b (gX35_read _ _ _ h.1) (fun K3 => ?_)
  refine gd_b (gX103_ofB _ _ _ _ _ ⟨K3.1.1, K3.1.2⟩  ) (fun K4 => ?_)
  exact ⟨rfl, ⟨K4.1.1, K4.1.2⟩, (ext_tr K0.2 (ext_tr K3.2 K4.2))⟩
noncomputable def GX43_make (a0 : Nat) (a1 : Int32) (M : FM) : Int32 × FM := GX43_make_0 a0 a1 M
def HX43_make (a0 : Nat) (a1 : Int32) (M : FM) : Prop := HX43_make_0 a0 a1 M
theorem gX43_make (a0 : Nat) (a1 : Int32) (M : FM) (T : Ty M) (n_a0 : fm_is M 44 44 a0 = true) (h : HX43_make a0 a1 M) : gd (FX43_make fN a0 a1 M) (GX43_make a0 a1 M) (OkR M) := gX43_make_0 a0 a1 M T n_a0 h
noncomputable def GX36_r_0 (a0 : Int32) (M : FM) : Int32 × FM :=
  let r1 : Int32 × FM := GX103_bits a0 (Int32.ofInt 11) (Int32.ofInt 7) M
  (r1.1, r1.2)
theorem gX36_r_0 (a0 : Int32) (M : FM) (T : Ty M) : gd (FX36_r_0 a0 M) (GX36_r_0 a0 M) (OkR M) := by
  delta FX36_r_0 BX36_r_0
  refine gd_b (gX103_bits _ _ _ _ ⟨T.1, T.2⟩  ) (fun K0 => ?_)
  exact ⟨rfl, ⟨K0.1.1, K0.1.2⟩, K0.2⟩
noncomputable def GX36_r (a0 : Int32) (M : FM) : Int32 × FM := GX36_r_0 a0 M
theorem gX36_r (a0 : Int32) (M : FM) (T : Ty M) : gd (FX36_r a0 M) (GX36_r a0 M) (OkR M) := gX36_r_0 a0 M T 
noncomputable def GX39_make_58 (s0 : Int32) (M : FM) : Int32 × FM :=
  (s0, M)
theorem gX39_make_58 (s0 : Int32) (M : FM) (T : Ty M) : gd (FX39_make_58 fN s0 M) (GX39_make_58 s0 M) (OkR M) := by
  delta FX39_make_58 BX39_make_58
  exact ⟨rfl, ⟨T.1, T.2⟩, (ext_r _)⟩
noncomputable def GX39_make_47 (a0 : Nat) (a1 : Int32) (s0 : Int32) (s1 : Int32) (s2 : Int32) (s3 : Int32) (M : FM) : Int32 × FM :=
  let x1 : Nat := (M.2.2 129 a0 0)
  let r2 : Int32 × FM := GX35_read x1 a1 M
  let r3 : Int32 × FM := GX103_ofI s0 s1 s2 s3 r2.1 r2.2
  GX39_make_58 r3.1 r3.2
def HX39_make_47 (a0 : Nat) (a1 : Int32) (s0 : Int32) (s1 : Int32) (s2 : Int32) (s3 : Int32) (M : FM) : Prop := let x1 : Nat := (M.2.2 129 a0 0); (HX35_read x1 a1 M ∧ True)
theorem gX39_make_47 (a0 : Nat) (a1 : Int32) (s0 : Int32) (s1 : Int32) (s2 : Int32) (s3 : Int32) (M : FM) (T : Ty M) (n_a0 : fm_is M 45 45 a0 = true) (h : HX39_make_47 a0 a1 s0 s1 s2 s3 M) : gd (FX39_make_47 fN a0 a1 s0 s1 s2 s3 M) (GX39_make_47 a0 a1 s0 s1 s2 s3 M) (OkR M) := by
  delta FX39_make_47 BX39_make_47
  refine gd_c n_a0 ?_
  have f0 := (tN_129_45 T.1 n_a0)
  refine gd_c f0 ?_
  refine gd_b (gX35_read _ _ _ h.1) (fun K1 => ?_)
  refine gd_b (gX103_ofI _ _ _ _ _ _ ⟨K1.1.1, K1.1.2⟩  ) (fun K2 => ?_)
  exact gd_tR (ext_tr K1.2 K2.2) (gX39_make_58 _ _ ⟨K2.1.1, K2.1.2⟩  )
noncomputable def GX39_make_20 (a0 : Nat) (a1 : Int32) (M : FM) : Int32 × FM :=
  let r1 : Int32 × FM := GX36_r a1 M
  fi ((r1.2.1 135 a0 0) = 0) (
    let r2 : Int32 × FM := GX36_r a1 r1.2
    GX39_make_47 a0 a1 (M.1 133 a0 0) r1.1 (r1.2.1 134 a0 0) r2.1 r2.2) (
    GX39_make_47 a0 a1 (M.1 133 a0 0) r1.1 (r1.2.1 134 a0 0) (Int32.ofInt 0) r1.2)
def HX39_make_20 (a0 : Nat) (a1 : Int32) (M : FM) : Prop := let r1 : Int32 × FM := GX36_r a1 M; (((r1.2.1 135 a0 0) = 0 → let r2 : Int32 × FM := GX36_r a1 r1.2; HX39_make_47 a0 a1 (M.1 133 a0 0) r1.1 (r1.2.1 134 a0 0) r2.1 r2.2) ∧ (¬ ((r1.2.1 135 a0 0) = 0) → HX39_make_47 a0 a1 (M.1 133 a0 0) r1.1 (r1.2.1 134 a0 0) (Int32.ofInt 0) r1.2))
theorem gX39_make_20 (a0 : Nat) (a1 : Int32) (M : FM) (T : Ty M) (n_a0 : fm_is M 45 45 a0 = true) (h : HX39_make_20 a0 a1 M) : gd (FX39_make_20 fN a0 a1 M) (GX39_make_20 a0 a1 M) (OkR M) := by
  delta FX39_make_20 BX39_make_20
  refine gd_c n_a0 ?_
  refine gd_b (gX36_r _ _ ⟨T.1, T.2⟩  ) (fun K0 => ?_)
  have f1 := (ext_is K0.2 (Nat.zero_lt_succ _) n_a0)
  refine gd_c f1 ?_
  have f2 := (ext_is K0.2 (Nat.zero_lt_succ _) n_a0)
  refine gd_c f2 ?_
  refine gd_fi (fun c3_0 => ?_) (fun c3_0 => ?_)
  · refine gd_b (gX36_r _ _ ⟨K0.1.1, K0.1.2⟩  ) (fun K4 => ?_)
    have f5 := (ext_is K4.2 (Nat.zero_lt_succ _) (ext_is K0.2 (Nat.zero_lt_succ _) n_a0))
    exact gd_tR (ext_tr K0.2 K4.2) (gX39_make_47 _ _ _ _ _ _ _ ⟨K4.1.1, K4.1.2⟩ f5 (h.1 c3_0))
  · have f6 := (ext_is K0.2 (Nat.zero_lt_succ _) n_a0)
    exact gd_tR K0.2 (gX39_make_47 _ _ _ _ _ _ _ ⟨K0.1.1, K0.1.2⟩ f6 (h.2 c3_0))
noncomputable def GX39_make_0 (a0 : Nat) (a1 : Int32) (M : FM) : Int32 × FM :=
  fi ((M.1 133 a0 0) = (Int32.ofInt 27)) (
    let r1 : Int32 × FM := GX36_r a1 M
    fi (r1.1 = 0) (
      GX39_make_58 (Int32.ofInt 0) r1.2) (
      GX39_make_20 a0 a1 r1.2)) (
    GX39_make_20 a0 a1 M)
def HX39_make_0 (a0 : Nat) (a1 : Int32) (M : FM) : Prop := (((M.1 133 a0 0) = (Int32.ofInt 27) → let r1 : Int32 × FM := GX36_r a1 M; ((r1.1 = 0 → True) ∧ (¬ (r1.1 = 0) → HX39_make_20 a0 a1 r1.2))) ∧ (¬ ((M.1 133 a0 0) = (Int32.ofInt 27)) → HX39_make_20 a0 a1 M))
theorem gX39_make_0 (a0 : Nat) (a1 : Int32) (M : FM) (T : Ty M) (n_a0 : fm_is M 45 45 a0 = true) (h : HX39_make_0 a0 a1 M) : gd (FX39_make_0 fN a0 a1 M) (GX39_make_0 a0 a1 M) (OkR M) := by
  delta FX39_make_0 BX39_make_0
  refine gd_c n_a0 ?_
  refine gd_fi (fun c0_0 => ?_) (fun c0_0 => ?_)
  · refine gd_b (gX36_r _ _ ⟨T.1, T.2⟩  ) (fun K1 => ?_)
    refine gd_fi (fun c2_0 => ?_) (fun c2_0 => ?_)
    · exact gd_tR K1.2 (gX39_make_58 _ _ ⟨K1.1.1, K1.1.2⟩  )
    · have f3 := (ext_is K1.2 (Nat.zero_lt_succ _) n_a0)
      exact gd_tR K1.2 (gX39_make_20 _ _ _ ⟨K1.1.1, K1.1.2⟩ f3 ((h.1 c0_0).2 c2_0))
  · exact gd_tR (ext_r _) (gX39_make_20 _ _ _ ⟨T.1, T.2⟩ n_a0 (h.2 c0_0))
noncomputable def GX39_make (a0 : Nat) (a1 : Int32) (M : FM) : Int32 × FM := GX39_make_0 a0 a1 M
def HX39_make (a0 : Nat) (a1 : Int32) (M : FM) : Prop := HX39_make_0 a0 a1 M
theorem gX39_make (a0 : Nat) (a1 : Int32) (M : FM) (T : Ty M) (n_a0 : fm_is M 45 45 a0 = true) (h : HX39_make a0 a1 M) : gd (FX39_make fN a0 a1 M) (GX39_make a0 a1 M) (OkR M) := gX39_make_0 a0 a1 M T n_a0 h
noncomputable def GX103_ofJ_0 (a0 : Int32) (a1 : Int32) (M : FM) : Int32 × FM :=
  let r1 : Int32 × FM := GX103_bits a1 (Int32.ofInt 19) (Int32.ofInt 12) M
  let r2 : Int32 × FM := GX103_bits a1 (Int32.ofInt 11) (Int32.ofInt 11) r1.2
  let r3 : Int32 × FM := GX103_bits a1 (Int32.ofInt 10) (Int32.ofInt 1) r2.2
  let r4 : Int32 × FM := GX103_bits a1 (Int32.ofInt 20) (Int32.ofInt 20) r3.2
  (((((((Int32.ofInt 111) ||| (a0 <<< ((Int32.ofInt 7) &&& 31))) ||| (r1.1 <<< ((Int32.ofInt 12) &&& 31))) ||| (r2.1 <<< ((Int32.ofInt 20) &&& 31))) ||| (r3.1 <<< ((Int32.ofInt 21) &&& 31))) ||| (r4.1 <<< ((Int32.ofInt 31) &&& 31))), r4.2)
theorem gX103_ofJ_0 (a0 : Int32) (a1 : Int32) (M : FM) (T : Ty M) : gd (FX103_ofJ_0 a0 a1 M) (GX103_ofJ_0 a0 a1 M) (OkR M) := by
  delta FX103_ofJ_0 BX103_ofJ_0
  refine gd_b (gX103_bits _ _ _ _ ⟨T.1, T.2⟩  ) (fun K0 => ?_)
  refine gd_b (gX103_bits _ _ _ _ ⟨K0.1.1, K0.1.2⟩  ) (fun K1 => ?_)
  refine gd_b (gX103_bits _ _ _ _ ⟨K1.1.1, K1.1.2⟩  ) (fun K2 => ?_)
  refine gd_b (gX103_bits _ _ _ _ ⟨K2.1.1, K2.1.2⟩  ) (fun K3 => ?_)
  exact ⟨rfl, ⟨K3.1.1, K3.1.2⟩, (ext_tr K0.2 (ext_tr K1.2 (ext_tr K2.2 K3.2)))⟩
noncomputable def GX103_ofJ (a0 : Int32) (a1 : Int32) (M : FM) : Int32 × FM := GX103_ofJ_0 a0 a1 M
theorem gX103_ofJ (a0 : Int32) (a1 : Int32) (M : FM) (T : Ty M) : gd (FX103_ofJ a0 a1 M) (GX103_ofJ a0 a1 M) (OkR M) := gX103_ofJ_0 a0 a1 M T 
noncomputable def GX42_make_0 (a0 : Nat) (a1 : Int32) (M : FM) : Int32 × FM :=
  let x1 : Nat := (M.2.2 129 a0 0)
  let r2 : Int32 × FM := GX35_read x1 a1 M
  let r3 : Int32 × FM := GX103_ofJ (Int32.ofInt 0) r2.1 r2.2
  (r3.1, r3.2)
def HX42_make_0 (a0 : Nat) (a1 : Int32) (M : FM) : Prop := let x1 : Nat := (M.2.2 129 a0 0); (HX35_read x1 a1 M ∧ True)
theorem gX42_make_0 (a0 : Nat) (a1 : Int32) (M : FM) (T : Ty M) (n_a0 : fm_is M 46 46 a0 = true) (h : HX42_make_0 a0 a1 M) : gd (FX42_make_0 fN a0 a1 M) (GX42_make_0 a0 a1 M) (OkR M) := by
  delta FX42_make_0 BX42_make_0
  refine gd_c n_a0 ?_
  have f0 := (tN_129_46 T.1 n_a0)
  refine gd_c f0 ?_
  refine gd_b (gX35_read _ _ _ h.1) (fun K1 => ?_)
  refine gd_b (gX103_ofJ _ _ _ ⟨K1.1.1, K1.1.2⟩  ) (fun K2 => ?_)
  exact ⟨rfl, ⟨K2.1.1, K2.1.2⟩, (ext_tr K1.2 K2.2)⟩
noncomputable def GX42_make (a0 : Nat) (a1 : Int32) (M : FM) : Int32 × FM := GX42_make_0 a0 a1 M
def HX42_make (a0 : Nat) (a1 : Int32) (M : FM) : Prop := HX42_make_0 a0 a1 M
theorem gX42_make (a0 : Nat) (a1 : Int32) (M : FM) (T : Ty M) (n_a0 : fm_is M 46 46 a0 = true) (h : HX42_make a0 a1 M) : gd (FX42_make fN a0 a1 M) (GX42_make a0 a1 M) (OkR M) := gX42_make_0 a0 a1 M T n_a0 h
noncomputable def GX103_ofR_0 (a0 : Int32) (a1 : Int32) (a2 : Int32) (a3 : Int32) (a4 : Int32) (a5 : Int32) (M : FM) : Int32 × FM :=
  ((((((a0 ||| (a1 <<< ((Int32.ofInt 7) &&& 31))) ||| (a2 <<< ((Int32.ofInt 12) &&& 31))) ||| (a3 <<< ((Int32.ofInt 15) &&& 31))) ||| (a4 <<< ((Int32.ofInt 20) &&& 31))) ||| (a5 <<< ((Int32.ofInt 25) &&& 31))), M)
theorem gX103_ofR_0 (a0 : Int32) (a1 : Int32) (a2 : Int32) (a3 : Int32) (a4 : Int32) (a5 : Int32) (M : FM) (T : Ty M) : gd (FX103_ofR_0 a0 a1 a2 a3 a4 a5 M) (GX103_ofR_0 a0 a1 a2 a3 a4 a5 M) (OkR M) := by
  delta FX103_ofR_0 BX103_ofR_0
  exact ⟨rfl, ⟨T.1, T.2⟩, (ext_r _)⟩
noncomputable def GX103_ofR (a0 : Int32) (a1 : Int32) (a2 : Int32) (a3 : Int32) (a4 : Int32) (a5 : Int32) (M : FM) : Int32 × FM := GX103_ofR_0 a0 a1 a2 a3 a4 a5 M
theorem gX103_ofR (a0 : Int32) (a1 : Int32) (a2 : Int32) (a3 : Int32) (a4 : Int32) (a5 : Int32) (M : FM) (T : Ty M) : gd (FX103_ofR a0 a1 a2 a3 a4 a5 M) (GX103_ofR a0 a1 a2 a3 a4 a5 M) (OkR M) := gX103_ofR_0 a0 a1 a2 a3 a4 a5 M T 
noncomputable def GX41_make_143 (s0 : Int32) (M : FM) : Int32 × FM :=
  (s0, M)
theorem gX41_make_143 (s0 : Int32) (M : FM) (T : Ty M) : gd (FX41_make_143 fN s0 M) (GX41_make_143 s0 M) (OkR M) := by
  delta FX41_make_143 BX41_make_143
  exact ⟨rfl, ⟨T.1, T.2⟩, (ext_r _)⟩
noncomputable def GX41_make_0 (a0 : Nat) (a1 : Int32) (M : FM) : Int32 × FM :=
  let r1 : Int32 × FM := GX103_bits a1 (Int32.ofInt 11) (Int32.ofInt 10) M
  fi ((Int32.ofInt 2) ≤ r1.1) (
    fi (r1.1 = (Int32.ofInt 2)) (
      let r2 : Int32 × FM := GX36_p a1 r1.2
      let r3 : Int32 × FM := GX36_p a1 r2.2
      let x4 : Nat := (r3.2.2.2 137 a0 0)
      let r5 : Int32 × FM := GX35_read x4 a1 r3.2
      let r6 : Int32 × FM := GX103_ofI (Int32.ofInt 19) r2.1 (Int32.ofInt 7) r3.1 r5.1 r5.2
      (r6.1, r6.2)) (
      let r7 : Int32 × FM := GX103_bits a1 (Int32.ofInt 12) (Int32.ofInt 12) r1.2
      let r8 : Int32 × FM := GX103_bits a1 (Int32.ofInt 6) (Int32.ofInt 5) r7.2
      let x9 : Int32 := ((Int32.ofInt 3) * (((Int32.ofInt 4) * r7.1) + r8.1))
      let x10 : Nat := (r8.2.2.2 136 a0 0)
      fi (x9 < (Int32.ofNat (r8.2.2.2 1 x10 0))) (
        let x11 : Nat := (r8.2.2.2 136 a0 0)
        let r12 : Int32 × FM := GX36_p a1 r8.2
        let x13 : Int32 := (x9 + (Int32.ofInt 1))
        let x14 : Nat := (r12.2.2.2 136 a0 0)
        let r15 : Int32 × FM := GX36_p a1 r12.2
        let r16 : Int32 × FM := GX36_s a1 r15.2
        let x17 : Int32 := (x9 + (Int32.ofInt 2))
        let x18 : Nat := (r16.2.2.2 136 a0 0)
        let r19 : Int32 × FM := GX103_ofR (r8.2.1 3 x11 x9.toNatClampNeg) r12.1 (r12.2.1 3 x14 x13.toNatClampNeg) r15.1 r16.1 (r16.2.1 3 x18 x17.toNatClampNeg) r16.2
        GX41_make_143 r19.1 r19.2) (
        GX41_make_143 (Int32.ofInt 0) r8.2))) (
    let r20 : Int32 × FM := GX36_p a1 r1.2
    let r21 : Int32 × FM := GX36_p a1 r20.2
    let x22 : Nat := (r21.2.2.2 129 a0 0)
    let r23 : Int32 × FM := GX35_read x22 a1 r21.2
    let r24 : Int32 × FM := GX103_ofI (Int32.ofInt 19) r20.1 (Int32.ofInt 5) r21.1 (r23.1 + ((Int32.ofInt 1024) * r1.1)) r23.2
    (r24.1, r24.2))
def HX41_make_0 (a0 : Nat) (a1 : Int32) (M : FM) : Prop := let r1 : Int32 × FM := GX103_bits a1 (Int32.ofInt 11) (Int32.ofInt 10) M; (((Int32.ofInt 2) ≤ r1.1 → ((r1.1 = (Int32.ofInt 2) → let r2 : Int32 × FM := GX36_p a1 r1.2; let r3 : Int32 × FM := GX36_p a1 r2.2; let x4 : Nat := (r3.2.2.2 137 a0 0); (HX35_read x4 a1 r3.2 ∧ True)) ∧ (¬ (r1.1 = (Int32.ofInt 2)) → let r7 : Int32 × FM := GX103_bits a1 (Int32.ofInt 12) (Int32.ofInt 12) r1.2; let r8 : Int32 × FM := GX103_bits a1 (Int32.ofInt 6) (Int32.ofInt 5) r7.2; let x9 : Int32 := ((Int32.ofInt 3) * (((Int32.ofInt 4) * r7.1) + r8.1)); let x10 : Nat := (r8.2.2.2 136 a0 0); ((x9 < (Int32.ofNat (r8.2.2.2 1 x10 0)) → let x11 : Nat := (r8.2.2.2 136 a0 0); (fm_in r8.2 x11 x9 = true ∧ let r12 : Int32 × FM := GX36_p a1 r8.2; let x13 : Int32 := (x9 + (Int32.ofInt 1)); let x14 : Nat := (r12.2.2.2 136 a0 0); (fm_in r12.2 x14 x13 = true ∧ let r15 : Int32 × FM := GX36_p a1 r12.2; let r16 : Int32 × FM := GX36_s a1 r15.2; let x17 : Int32 := (x9 + (Int32.ofInt 2)); let x18 : Nat := (r16.2.2.2 136 a0 0); (fm_in r16.2 x18 x17 = true ∧ True)))) ∧ (¬ (x9 < (Int32.ofNat (r8.2.2.2 1 x10 0))) → True))))) ∧ (¬ ((Int32.ofInt 2) ≤ r1.1) → let r20 : Int32 × FM := GX36_p a1 r1.2; let r21 : Int32 × FM := GX36_p a1 r20.2; let x22 : Nat := (r21.2.2.2 129 a0 0); (HX35_read x22 a1 r21.2 ∧ True)))
theorem gX41_make_0 (a0 : Nat) (a1 : Int32) (M : FM) (T : Ty M) (n_a0 : fm_is M 47 47 a0 = true) (h : HX41_make_0 a0 a1 M) : gd (FX41_make_0 fN a0 a1 M) (GX41_make_0 a0 a1 M) (OkR M) := by
  delta FX41_make_0 BX41_make_0
  refine gd_b (gX103_bits _ _ _ _ ⟨T.1, T.2⟩  ) (fun K0 => ?_)
  refine gd_fi (fun c1_0 => ?_) (fun c1_0 => ?_)
  · refine gd_fi (fun c2_0 => ?_) (fun c2_0 => ?_)
    · refine gd_b (gX36_p _ _ ⟨K0.1.1, K0.1.2⟩  ) (fun K3 => ?_)
      refine gd_b (gX36_p _ _ ⟨K3.1.1, K3.1.2⟩  ) (fun K4 => ?_)
      have f5 := (ext_is K4.2 (Nat.zero_lt_succ _) (ext_is K3.2 (Nat.zero_lt_succ _) (ext_is K0.2 (Nat.zero_lt_succ _) n_a0)))
      refine gd_c f5 ?_
      have f6 := (tN_137 K4.1.1 (ext_is K4.2 (Nat.zero_lt_succ _) (ext_is K3.2 (Nat.zero_lt_succ _) (ext_is K0.2 (Nat.zero_lt_succ _) n_a0))))
      refine gd_c f6 ?_
      refine gd_b (gX35_read _ _ _ ((h.1 c1_0).1 c2_0).1) (fun K7 => ?_)
      refine gd_b (gX103_ofI _ _ _ _ _ _ ⟨K7.1.1, K7.1.2⟩  ) (fun K8 => ?_)
      exact ⟨rfl, ⟨K8.1.1, K8.1.2⟩, (ext_tr K0.2 (ext_tr K3.2 (ext_tr K4.2 (ext_tr K7.2 K8.2))))⟩
    · refine gd_b (gX103_bits _ _ _ _ ⟨K0.1.1, K0.1.2⟩  ) (fun K9 => ?_)
      refine gd_b (gX103_bits _ _ _ _ ⟨K9.1.1, K9.1.2⟩  ) (fun K10 => ?_)
      have f11 := (ext_is K10.2 (Nat.zero_lt_succ _) (ext_is K9.2 (Nat.zero_lt_succ _) (ext_is K0.2 (Nat.zero_lt_succ _) n_a0)))
      refine gd_c f11 ?_
      have f12 := (fm_w (lo' := 901) (hi' := 990) rfl rfl (tN_136 K10.1.1 (ext_is K10.2 (Nat.zero_lt_succ _) (ext_is K9.2 (Nat.zero_lt_succ _) (ext_is K0.2 (Nat.zero_lt_succ _) n_a0)))))
      refine gd_c f12 ?_
      refine gd_fi (fun c13_0 => ?_) (fun c13_0 => ?_)
      · have f14 := (ext_is K10.2 (Nat.zero_lt_succ _) (ext_is K9.2 (Nat.zero_lt_succ _) (ext_is K0.2 (Nat.zero_lt_succ _) n_a0)))
        refine gd_c f14 ?_
        have f25 := (tN_136 K10.1.1 (ext_is K10.2 (Nat.zero_lt_succ _) (ext_is K9.2 (Nat.zero_lt_succ _) (ext_is K0.2 (Nat.zero_lt_succ _) n_a0))))
        have f26 := (((h.1 c1_0).2 c2_0).1 c13_0).1
        refine gd_c ⟨f25, f26⟩ ?_
        refine gd_b (gX36_p _ _ ⟨K10.1.1, K10.1.2⟩  ) (fun K15 => ?_)
        have f16 := (ext_is K15.2 (Nat.zero_lt_succ _) (ext_is K10.2 (Nat.zero_lt_succ _) (ext_is K9.2 (Nat.zero_lt_succ _) (ext_is K0.2 (Nat.zero_lt_succ _) n_a0))))
        refine gd_c f16 ?_
        have f23 := (tN_136 K15.1.1 (ext_is K15.2 (Nat.zero_lt_succ _) (ext_is K10.2 (Nat.zero_lt_succ _) (ext_is K9.2 (Nat.zero_lt_succ _) (ext_is K0.2 (Nat.zero_lt_succ _) n_a0)))))
        have f24 := (((h.1 c1_0).2 c2_0).1 c13_0).2.1
        refine gd_c ⟨f23, f24⟩ ?_
        refine gd_b (gX36_p _ _ ⟨K15.1.1, K15.1.2⟩  ) (fun K17 => ?_)
        refine gd_b (gX36_s _ _ ⟨K17.1.1, K17.1.2⟩  ) (fun K18 => ?_)
        have f19 := (ext_is K18.2 (Nat.zero_lt_succ _) (ext_is K17.2 (Nat.zero_lt_succ _) (ext_is K15.2 (Nat.zero_lt_succ _) (ext_is K10.2 (Nat.zero_lt_succ _) (ext_is K9.2 (Nat.zero_lt_succ _) (ext_is K0.2 (Nat.zero_lt_succ _) n_a0))))))
        refine gd_c f19 ?_
        have f21 := (tN_136 K18.1.1 (ext_is K18.2 (Nat.zero_lt_succ _) (ext_is K17.2 (Nat.zero_lt_succ _) (ext_is K15.2 (Nat.zero_lt_succ _) (ext_is K10.2 (Nat.zero_lt_succ _) (ext_is K9.2 (Nat.zero_lt_succ _) (ext_is K0.2 (Nat.zero_lt_succ _) n_a0)))))))
        have f22 := (((h.1 c1_0).2 c2_0).1 c13_0).2.2.1
        refine gd_c ⟨f21, f22⟩ ?_
        refine gd_b (gX103_ofR _ _ _ _ _ _ _ ⟨K18.1.1, K18.1.2⟩  ) (fun K20 => ?_)
        exact gd_tR (ext_tr K0.2 (ext_tr K9.2 (ext_tr K10.2 (ext_tr K15.2 (ext_tr K17.2 (ext_tr K18.2 K20.2)))))) (gX41_make_143 _ _ ⟨K20.1.1, K20.1.2⟩  )
      · exact gd_tR (ext_tr K0.2 (ext_tr K9.2 K10.2)) (gX41_make_143 _ _ ⟨K10.1.1, K10.1.2⟩  )
  · refine gd_b (gX36_p _ _ ⟨K0.1.1, K0.1.2⟩  ) (fun K27 => ?_)
    refine gd_b (gX36_p _ _ ⟨K27.1.1, K27.1.2⟩  ) (fun K28 => ?_)
    have f29 := (ext_is K28.2 (Nat.zero_lt_succ _) (ext_is K27.2 (Nat.zero_lt_succ _) (ext_is K0.2 (Nat.zero_lt_succ _) n_a0)))
    refine gd_c f29 ?_
    have f30 := (tN_129_47 K28.1.1 (ext_is K28.2 (Nat.zero_lt_succ _) (ext_is K27.2 (Nat.zero_lt_succ _) (ext_is K0.2 (Nat.zero_lt_succ _) n_a0))))
    refine gd_c f30 ?_
    refine gd_b (gX35_read _ _ _ (h.2 c1_0).1) (fun K31 => ?_)
    refine gd_b (gX103_ofI _ _ _ _ _ _ ⟨K31.1.1, K31.1.2⟩  ) (fun K32 => ?_)
    exact ⟨rfl, ⟨K32.1.1, K32.1.2⟩, (ext_tr K0.2 (ext_tr K27.2 (ext_tr K28.2 (ext_tr K31.2 K32.2))))⟩
noncomputable def GX41_make (a0 : Nat) (a1 : Int32) (M : FM) : Int32 × FM := GX41_make_0 a0 a1 M
def HX41_make (a0 : Nat) (a1 : Int32) (M : FM) : Prop := HX41_make_0 a0 a1 M
theorem gX41_make (a0 : Nat) (a1 : Int32) (M : FM) (T : Ty M) (n_a0 : fm_is M 47 47 a0 = true) (h : HX41_make a0 a1 M) : gd (FX41_make fN a0 a1 M) (GX41_make a0 a1 M) (OkR M) := gX41_make_0 a0 a1 M T n_a0 h
noncomputable def GX36_q_0 (a0 : Int32) (M : FM) : Int32 × FM :=
  let r1 : Int32 × FM := GX103_bits a0 (Int32.ofInt 6) (Int32.ofInt 2) M
  (r1.1, r1.2)
theorem gX36_q_0 (a0 : Int32) (M : FM) (T : Ty M) : gd (FX36_q_0 a0 M) (GX36_q_0 a0 M) (OkR M) := by
  delta FX36_q_0 BX36_q_0
  refine gd_b (gX103_bits _ _ _ _ ⟨T.1, T.2⟩  ) (fun K0 => ?_)
  exact ⟨rfl, ⟨K0.1.1, K0.1.2⟩, K0.2⟩
noncomputable def GX36_q (a0 : Int32) (M : FM) : Int32 × FM := GX36_q_0 a0 M
theorem gX36_q (a0 : Int32) (M : FM) (T : Ty M) : gd (FX36_q a0 M) (GX36_q a0 M) (OkR M) := gX36_q_0 a0 M T 
noncomputable def GX44_make_70 (s0 : Int32) (M : FM) : Int32 × FM :=
  (s0, M)
theorem gX44_make_70 (s0 : Int32) (M : FM) (T : Ty M) : gd (FX44_make_70 fN s0 M) (GX44_make_70 s0 M) (OkR M) := by
  delta FX44_make_70 BX44_make_70
  exact ⟨rfl, ⟨T.1, T.2⟩, (ext_r _)⟩
noncomputable def GX44_make_53 (a0 : Nat) (a1 : Int32) (a2 : Int32) (M : FM) : Int32 × FM :=
  let r1 : Int32 × FM := GX36_r a1 M
  let r2 : Int32 × FM := GX103_ofI (M.1 138 a0 0) r1.1 (r1.2.1 139 a0 0) (Int32.ofInt 2) a2 r1.2
  GX44_make_70 r2.1 r2.2
theorem gX44_make_53 (a0 : Nat) (a1 : Int32) (a2 : Int32) (M : FM) (T : Ty M) (n_a0 : fm_is M 48 48 a0 = true) : gd (FX44_make_53 fN a0 a1 a2 M) (GX44_make_53 a0 a1 a2 M) (OkR M) := by
  delta FX44_make_53 BX44_make_53
  refine gd_c n_a0 ?_
  refine gd_b (gX36_r _ _ ⟨T.1, T.2⟩  ) (fun K0 => ?_)
  have f1 := (ext_is K0.2 (Nat.zero_lt_succ _) n_a0)
  refine gd_c f1 ?_
  refine gd_b (gX103_ofI _ _ _ _ _ _ ⟨K0.1.1, K0.1.2⟩  ) (fun K2 => ?_)
  exact gd_tR (ext_tr K0.2 K2.2) (gX44_make_70 _ _ ⟨K2.1.1, K2.1.2⟩  )
noncomputable def GX44_make_0 (a0 : Nat) (a1 : Int32) (M : FM) : Int32 × FM :=
  let x1 : Nat := (M.2.2 129 a0 0)
  let r2 : Int32 × FM := GX35_read x1 a1 M
  fi ((r2.2.1 140 a0 0) = 0) (
    fi ((r2.2.1 138 a0 0) = (Int32.ofInt 3)) (
      let r3 : Int32 × FM := GX36_r a1 r2.2
      fi (r3.1 = 0) (
        GX44_make_70 (Int32.ofInt 0) r3.2) (
        GX44_make_53 a0 a1 r2.1 r3.2)) (
      GX44_make_53 a0 a1 r2.1 r2.2)) (
    let r4 : Int32 × FM := GX36_q a1 r2.2
    let r5 : Int32 × FM := GX103_ofS (r2.2.1 138 a0 0) (r2.2.1 139 a0 0) (Int32.ofInt 2) r4.1 r2.1 r4.2
    (r5.1, r5.2))
def HX44_make_0 (a0 : Nat) (a1 : Int32) (M : FM) : Prop := let x1 : Nat := (M.2.2 129 a0 0); (HX35_read x1 a1 M ∧ True)
theorem gX44_make_0 (a0 : Nat) (a1 : Int32) (M : FM) (T : Ty M) (n_a0 : fm_is M 48 48 a0 = true) (h : HX44_make_0 a0 a1 M) : gd (FX44_make_0 fN a0 a1 M) (GX44_make_0 a0 a1 M) (OkR M) := by
  delta FX44_make_0 BX44_make_0
  refine gd_c n_a0 ?_
  have f0 := (tN_129_48 T.1 n_a0)
  refine gd_c f0 ?_
  refine gd_b (gX35_read _ _ _ h.1) (fun K1 => ?_)
  have f2 := (ext_is K1.2 (Nat.zero_lt_succ _) n_a0)
  refine gd_c f2 ?_
  refine gd_fi (fun c3_0 => ?_) (fun c3_0 => ?_)
  · have f4 := (ext_is K1.2 (Nat.zero_lt_succ _) n_a0)
    refine gd_c f4 ?_
    refine gd_fi (fun c5_0 => ?_) (fun c5_0 => ?_)
    · refine gd_b (gX36_r _ _ ⟨K1.1.1, K1.1.2⟩  ) (fun K6 => ?_)
      refine gd_fi (fun c7_0 => ?_) (fun c7_0 => ?_)
      · exact gd_tR (ext_tr K1.2 K6.2) (gX44_make_70 _ _ ⟨K6.1.1, K6.1.2⟩  )
      · have f8 := (ext_is K6.2 (Nat.zero_lt_succ _) (ext_is K1.2 (Nat.zero_lt_succ _) n_a0))
        exact gd_tR (ext_tr K1.2 K6.2) (gX44_make_53 _ _ _ _ ⟨K6.1.1, K6.1.2⟩ f8 )
    · have f9 := (ext_is K1.2 (Nat.zero_lt_succ _) n_a0)
      exact gd_tR K1.2 (gX44_make_53 _ _ _ _ ⟨K1.1.1, K1.1.2⟩ f9 )
  · have f10 := (ext_is K1.2 (Nat.zero_lt_succ _) n_a0)
    refine gd_c f10 ?_
    have f11 := (ext_is K1.2 (Nat.zero_lt_succ _) n_a0)
    refine gd_c f11 ?_
    refine gd_b (gX36_q _ _ ⟨K1.1.1, K1.1.2⟩  ) (fun K12 => ?_)
    refine gd_b (gX103_ofS _ _ _ _ _ _ ⟨K12.1.1, K12.1.2⟩  ) (fun K13 => ?_)
    exact ⟨rfl, ⟨K13.1.1, K13.1.2⟩, (ext_tr K1.2 (ext_tr K12.2 K13.2))⟩
noncomputable def GX44_make (a0 : Nat) (a1 : Int32) (M : FM) : Int32 × FM := GX44_make_0 a0 a1 M
def HX44_make (a0 : Nat) (a1 : Int32) (M : FM) : Prop := HX44_make_0 a0 a1 M
theorem gX44_make (a0 : Nat) (a1 : Int32) (M : FM) (T : Ty M) (n_a0 : fm_is M 48 48 a0 = true) (h : HX44_make a0 a1 M) : gd (FX44_make fN a0 a1 M) (GX44_make a0 a1 M) (OkR M) := gX44_make_0 a0 a1 M T n_a0 h
noncomputable def GX103_ofU_0 (a0 : Int32) (a1 : Int32) (a2 : Int32) (M : FM) : Int32 × FM :=
  (((a0 ||| (a1 <<< ((Int32.ofInt 7) &&& 31))) ||| (a2 &&& (Int32.ofInt (-4096)))), M)
theorem gX103_ofU_0 (a0 : Int32) (a1 : Int32) (a2 : Int32) (M : FM) (T : Ty M) : gd (FX103_ofU_0 a0 a1 a2 M) (GX103_ofU_0 a0 a1 a2 M) (OkR M) := by
  delta FX103_ofU_0 BX103_ofU_0
  exact ⟨rfl, ⟨T.1, T.2⟩, (ext_r _)⟩
noncomputable def GX103_ofU (a0 : Int32) (a1 : Int32) (a2 : Int32) (M : FM) : Int32 × FM := GX103_ofU_0 a0 a1 a2 M
theorem gX103_ofU (a0 : Int32) (a1 : Int32) (a2 : Int32) (M : FM) (T : Ty M) : gd (FX103_ofU a0 a1 a2 M) (GX103_ofU a0 a1 a2 M) (OkR M) := gX103_ofU_0 a0 a1 a2 M T 
noncomputable def GX40_make_65 (s0 : Int32) (M : FM) : Int32 × FM :=
  (s0, M)
theorem gX40_make_65 (s0 : Int32) (M : FM) (T : Ty M) : gd (FX40_make_65 fN s0 M) (GX40_make_65 s0 M) (OkR M) := by
  delta FX40_make_65 BX40_make_65
  exact ⟨rfl, ⟨T.1, T.2⟩, (ext_r _)⟩
noncomputable def GX40_make_34 (s0 : Int32) (M : FM) : Int32 × FM :=
  (s0, M)
theorem gX40_make_34 (s0 : Int32) (M : FM) (T : Ty M) : gd (FX40_make_34 fN s0 M) (GX40_make_34 s0 M) (OkR M) := by
  delta FX40_make_34 BX40_make_34
  exact ⟨rfl, ⟨T.1, T.2⟩, (ext_r _)⟩
noncomputable def GX40_make_0 (a0 : Nat) (a1 : Int32) (M : FM) : Int32 × FM :=
  let r1 : Int32 × FM := GX36_r a1 M
  fi (r1.1 = (Int32.ofInt 2)) (
    let x2 : Nat := (r1.2.2.2 129 a0 0)
    let r3 : Int32 × FM := GX35_read x2 a1 r1.2
    fi (r3.1 = 0) (
      GX40_make_34 (Int32.ofInt 0) r3.2) (
      let r4 : Int32 × FM := GX103_ofI (Int32.ofInt 19) (Int32.ofInt 2) (Int32.ofInt 0) (Int32.ofInt 2) r3.1 r3.2
      GX40_make_34 r4.1 r4.2)) (
    let x5 : Nat := (r1.2.2.2 141 a0 0)
    let r6 : Int32 × FM := GX35_read x5 a1 r1.2
    fi (r6.1 = 0) (
      GX40_make_65 (Int32.ofInt 0) r6.2) (
      let r7 : Int32 × FM := GX36_r a1 r6.2
      let r8 : Int32 × FM := GX103_ofU (Int32.ofInt 55) r7.1 (r6.1 <<< ((Int32.ofInt 12) &&& 31)) r7.2
      GX40_make_65 r8.1 r8.2))
def HX40_make_0 (a0 : Nat) (a1 : Int32) (M : FM) : Prop := let r1 : Int32 × FM := GX36_r a1 M; ((r1.1 = (Int32.ofInt 2) → let x2 : Nat := (r1.2.2.2 129 a0 0); (HX35_read x2 a1 r1.2 ∧ True)) ∧ (¬ (r1.1 = (Int32.ofInt 2)) → let x5 : Nat := (r1.2.2.2 141 a0 0); (HX35_read x5 a1 r1.2 ∧ True)))
theorem gX40_make_0 (a0 : Nat) (a1 : Int32) (M : FM) (T : Ty M) (n_a0 : fm_is M 49 49 a0 = true) (h : HX40_make_0 a0 a1 M) : gd (FX40_make_0 fN a0 a1 M) (GX40_make_0 a0 a1 M) (OkR M) := by
  delta FX40_make_0 BX40_make_0
  refine gd_b (gX36_r _ _ ⟨T.1, T.2⟩  ) (fun K0 => ?_)
  refine gd_fi (fun c1_0 => ?_) (fun c1_0 => ?_)
  · have f2 := (ext_is K0.2 (Nat.zero_lt_succ _) n_a0)
    refine gd_c f2 ?_
    have f3 := (tN_129_49 K0.1.1 (ext_is K0.2 (Nat.zero_lt_succ _) n_a0))
    refine gd_c f3 ?_
    refine gd_b (gX35_read _ _ _ (h.1 c1_0).1) (fun K4 => ?_)
    refine gd_fi (fun c5_0 => ?_) (fun c5_0 => ?_)
    · exact gd_tR (ext_tr K0.2 K4.2) (gX40_make_34 _ _ ⟨K4.1.1, K4.1.2⟩  )
    · refine gd_b (gX103_ofI _ _ _ _ _ _ ⟨K4.1.1, K4.1.2⟩  ) (fun K6 => ?_)
      exact gd_tR (ext_tr K0.2 (ext_tr K4.2 K6.2)) (gX40_make_34 _ _ ⟨K6.1.1, K6.1.2⟩  )
  · have f7 := (ext_is K0.2 (Nat.zero_lt_succ _) n_a0)
    refine gd_c f7 ?_
    have f8 := (tN_141 K0.1.1 (ext_is K0.2 (Nat.zero_lt_succ _) n_a0))
    refine gd_c f8 ?_
    refine gd_b (gX35_read _ _ _ (h.2 c1_0).1) (fun K9 => ?_)
    refine gd_fi (fun c10_0 => ?_) (fun c10_0 => ?_)
    · exact gd_tR (ext_tr K0.2 K9.2) (gX40_make_65 _ _ ⟨K9.1.1, K9.1.2⟩  )
    · refine gd_b (gX36_r _ _ ⟨K9.1.1, K9.1.2⟩  ) (fun K11 => ?_)
      refine gd_b (gX103_ofU _ _ _ _ ⟨K11.1.1, K11.1.2⟩  ) (fun K12 => ?_)
      exact gd_tR (ext_tr K0.2 (ext_tr K9.2 (ext_tr K11.2 K12.2))) (gX40_make_65 _ _ ⟨K12.1.1, K12.1.2⟩  )
noncomputable def GX40_make (a0 : Nat) (a1 : Int32) (M : FM) : Int32 × FM := GX40_make_0 a0 a1 M
def HX40_make (a0 : Nat) (a1 : Int32) (M : FM) : Prop := HX40_make_0 a0 a1 M
theorem gX40_make (a0 : Nat) (a1 : Int32) (M : FM) (T : Ty M) (n_a0 : fm_is M 49 49 a0 = true) (h : HX40_make a0 a1 M) : gd (FX40_make fN a0 a1 M) (GX40_make a0 a1 M) (OkR M) := gX40_make_0 a0 a1 M T n_a0 h
noncomputable def GX37_make_29 (s0 : Int32) (M : FM) : Int32 × FM :=
  (s0, M)
theorem gX37_make_29 (s0 : Int32) (M : FM) (T : Ty M) : gd (FX37_make_29 fN s0 M) (GX37_make_29 s0 M) (OkR M) := by
  delta FX37_make_29 BX37_make_29
  exact ⟨rfl, ⟨T.1, T.2⟩, (ext_r _)⟩
noncomputable def GX37_make_0 (a0 : Nat) (a1 : Int32) (M : FM) : Int32 × FM :=
  let x1 : Nat := (M.2.2 129 a0 0)
  let r2 : Int32 × FM := GX35_read x1 a1 M
  fi (r2.1 = 0) (
    GX37_make_29 (Int32.ofInt 0) r2.2) (
    let r3 : Int32 × FM := GX36_s a1 r2.2
    let r4 : Int32 × FM := GX103_ofI (Int32.ofInt 19) r3.1 (Int32.ofInt 0) (Int32.ofInt 2) r2.1 r3.2
    GX37_make_29 r4.1 r4.2)
def HX37_make_0 (a0 : Nat) (a1 : Int32) (M : FM) : Prop := let x1 : Nat := (M.2.2 129 a0 0); (HX35_read x1 a1 M ∧ True)
theorem gX37_make_0 (a0 : Nat) (a1 : Int32) (M : FM) (T : Ty M) (n_a0 : fm_is M 50 50 a0 = true) (h : HX37_make_0 a0 a1 M) : gd (FX37_make_0 fN a0 a1 M) (GX37_make_0 a0 a1 M) (OkR M) := by
  delta FX37_make_0 BX37_make_0
  refine gd_c n_a0 ?_
  have f0 := (tN_129_50 T.1 n_a0)
  refine gd_c f0 ?_
  refine gd_b (gX35_read _ _ _ h.1) (fun K1 => ?_)
  refine gd_fi (fun c2_0 => ?_) (fun c2_0 => ?_)
  · exact gd_tR K1.2 (gX37_make_29 _ _ ⟨K1.1.1, K1.1.2⟩  )
  · refine gd_b (gX36_s _ _ ⟨K1.1.1, K1.1.2⟩  ) (fun K3 => ?_)
    refine gd_b (gX103_ofI _ _ _ _ _ _ ⟨K3.1.1, K3.1.2⟩  ) (fun K4 => ?_)
    exact gd_tR (ext_tr K1.2 (ext_tr K3.2 K4.2)) (gX37_make_29 _ _ ⟨K4.1.1, K4.1.2⟩  )
noncomputable def GX37_make (a0 : Nat) (a1 : Int32) (M : FM) : Int32 × FM := GX37_make_0 a0 a1 M
def HX37_make (a0 : Nat) (a1 : Int32) (M : FM) : Prop := HX37_make_0 a0 a1 M
theorem gX37_make (a0 : Nat) (a1 : Int32) (M : FM) (T : Ty M) (n_a0 : fm_is M 50 50 a0 = true) (h : HX37_make a0 a1 M) : gd (FX37_make fN a0 a1 M) (GX37_make a0 a1 M) (OkR M) := gX37_make_0 a0 a1 M T n_a0 h
noncomputable def GX45_make_82 (a1 : Int32) (s0 : Int32) (s1 : Int32) (M : FM) : Int32 × FM :=
  let r1 : Int32 × FM := GX36_r a1 M
  let r2 : Int32 × FM := GX103_ofI s0 s1 (Int32.ofInt 0) r1.1 (Int32.ofInt 0) r1.2
  (r2.1, r2.2)
theorem gX45_make_82 (a1 : Int32) (s0 : Int32) (s1 : Int32) (M : FM) (T : Ty M) : gd (FX45_make_82 a1 s0 s1 M) (GX45_make_82 a1 s0 s1 M) (OkR M) := by
  delta FX45_make_82 BX45_make_82
  refine gd_b (gX36_r _ _ ⟨T.1, T.2⟩  ) (fun K0 => ?_)
  refine gd_b (gX103_ofI _ _ _ _ _ _ ⟨K0.1.1, K0.1.2⟩  ) (fun K1 => ?_)
  exact ⟨rfl, ⟨K1.1.1, K1.1.2⟩, (ext_tr K0.2 K1.2)⟩
noncomputable def GX45_make_70 (s0 : Int32) (M : FM) : Int32 × FM :=
  (s0, M)
theorem gX45_make_70 (s0 : Int32) (M : FM) (T : Ty M) : gd (FX45_make_70 s0 M) (GX45_make_70 s0 M) (OkR M) := by
  delta FX45_make_70 BX45_make_70
  exact ⟨rfl, ⟨T.1, T.2⟩, (ext_r _)⟩
noncomputable def GX45_make_44 (a1 : Int32) (s0 : Int32) (s1 : Int32) (s2 : Int32) (s3 : Int32) (M : FM) : Int32 × FM :=
  let r1 : Int32 × FM := GX36_q a1 M
  let r2 : Int32 × FM := GX103_ofR s0 s1 s2 s3 r1.1 (Int32.ofInt 0) r1.2
  (r2.1, r2.2)
theorem gX45_make_44 (a1 : Int32) (s0 : Int32) (s1 : Int32) (s2 : Int32) (s3 : Int32) (M : FM) (T : Ty M) : gd (FX45_make_44 a1 s0 s1 s2 s3 M) (GX45_make_44 a1 s0 s1 s2 s3 M) (OkR M) := by
  delta FX45_make_44 BX45_make_44
  refine gd_b (gX36_q _ _ ⟨T.1, T.2⟩  ) (fun K0 => ?_)
  refine gd_b (gX103_ofR _ _ _ _ _ _ _ ⟨K0.1.1, K0.1.2⟩  ) (fun K1 => ?_)
  exact ⟨rfl, ⟨K1.1.1, K1.1.2⟩, (ext_tr K0.2 K1.2)⟩
noncomputable def GX45_make_17 (a1 : Int32) (s0 : Int32) (M : FM) : Int32 × FM :=
  let r1 : Int32 × FM := GX36_q a1 M
  fi (r1.1 = 0) (
    let r2 : Int32 × FM := GX36_r a1 r1.2
    fi (r2.1 = 0) (
      fi (s0 = 0) (
        GX45_make_70 (Int32.ofInt 0) r2.2) (
        GX45_make_70 (Int32.ofInt 1048691) r2.2)) (
      fi (s0 = 0) (
        GX45_make_82 a1 (Int32.ofInt 103) (Int32.ofInt 0) r2.2) (
        GX45_make_82 a1 (Int32.ofInt 103) (Int32.ofInt 1) r2.2))) (
    let r3 : Int32 × FM := GX36_r a1 r1.2
    fi (s0 = 0) (
      GX45_make_44 a1 (Int32.ofInt 51) r3.1 (Int32.ofInt 0) (Int32.ofInt 0) r3.2) (
      let r4 : Int32 × FM := GX36_r a1 r3.2
      GX45_make_44 a1 (Int32.ofInt 51) r3.1 (Int32.ofInt 0) r4.1 r4.2))
theorem gX45_make_17 (a1 : Int32) (s0 : Int32) (M : FM) (T : Ty M) : gd (FX45_make_17 a1 s0 M) (GX45_make_17 a1 s0 M) (OkR M) := by
  delta FX45_make_17 BX45_make_17
  refine gd_b (gX36_q _ _ ⟨T.1, T.2⟩  ) (fun K0 => ?_)
  refine gd_fi (fun c1_0 => ?_) (fun c1_0 => ?_)
  · refine gd_b (gX36_r _ _ ⟨K0.1.1, K0.1.2⟩  ) (fun K2 => ?_)
    refine gd_fi (fun c3_0 => ?_) (fun c3_0 => ?_)
    · refine gd_fi (fun c4_0 => ?_) (fun c4_0 => ?_)
      · exact gd_tR (ext_tr K0.2 K2.2) (gX45_make_70 _ _ ⟨K2.1.1, K2.1.2⟩  )
      · exact gd_tR (ext_tr K0.2 K2.2) (gX45_make_70 _ _ ⟨K2.1.1, K2.1.2⟩  )
    · refine gd_fi (fun c5_0 => ?_) (fun c5_0 => ?_)
      · exact gd_tR (ext_tr K0.2 K2.2) (gX45_make_82 _ _ _ _ ⟨K2.1.1, K2.1.2⟩  )
      · exact gd_tR (ext_tr K0.2 K2.2) (gX45_make_82 _ _ _ _ ⟨K2.1.1, K2.1.2⟩  )
  · refine gd_b (gX36_r _ _ ⟨K0.1.1, K0.1.2⟩  ) (fun K6 => ?_)
    refine gd_fi (fun c7_0 => ?_) (fun c7_0 => ?_)
    · exact gd_tR (ext_tr K0.2 K6.2) (gX45_make_44 _ _ _ _ _ _ ⟨K6.1.1, K6.1.2⟩  )
    · refine gd_b (gX36_r _ _ ⟨K6.1.1, K6.1.2⟩  ) (fun K8 => ?_)
      exact gd_tR (ext_tr K0.2 (ext_tr K6.2 K8.2)) (gX45_make_44 _ _ _ _ _ _ ⟨K8.1.1, K8.1.2⟩  )
noncomputable def GX45_make_0 (a0 : Nat) (a1 : Int32) (M : FM) : Int32 × FM :=
  let r1 : Int32 × FM := GX103_bits a1 (Int32.ofInt 12) (Int32.ofInt 12) M
  fi (r1.1 = (Int32.ofInt 1)) (
    GX45_make_17 a1 (Int32.ofInt 1) r1.2) (
    GX45_make_17 a1 (Int32.ofInt 0) r1.2)
theorem gX45_make_0 (a0 : Nat) (a1 : Int32) (M : FM) (T : Ty M) : gd (FX45_make_0 a0 a1 M) (GX45_make_0 a0 a1 M) (OkR M) := by
  delta FX45_make_0 BX45_make_0
  refine gd_b (gX103_bits _ _ _ _ ⟨T.1, T.2⟩  ) (fun K0 => ?_)
  refine gd_fi (fun c1_0 => ?_) (fun c1_0 => ?_)
  · exact gd_tR K0.2 (gX45_make_17 _ _ _ ⟨K0.1.1, K0.1.2⟩  )
  · exact gd_tR K0.2 (gX45_make_17 _ _ _ ⟨K0.1.1, K0.1.2⟩  )
noncomputable def GX45_make (a0 : Nat) (a1 : Int32) (M : FM) : Int32 × FM := GX45_make_0 a0 a1 M
theorem gX45_make (a0 : Nat) (a1 : Int32) (M : FM) (T : Ty M) : gd (FX45_make a0 a1 M) (GX45_make a0 a1 M) (OkR M) := gX45_make_0 a0 a1 M T 
noncomputable def GX34_expand_41 (s0 : Int32) (M : FM) : Int32 × FM :=
  (s0, M)
theorem gX34_expand_41 (s0 : Int32) (M : FM) (T : Ty M) : gd (FX34_expand_41 fN s0 M) (GX34_expand_41 s0 M) (OkR M) := by
  delta FX34_expand_41 BX34_expand_41
  exact ⟨rfl, ⟨T.1, T.2⟩, (ext_r _)⟩
noncomputable def GX34_expand_27 (a1 : Int32) (s0 : Nat) (M : FM) : Int32 × FM :=
  fi (s0 = 0) (
    GX34_expand_41 (Int32.ofInt 0) M) (
    let r1 : Int32 × FM := (fi (fm_is M 43 43 s0 = true) (GX38_make s0 a1 M) ((fi (fm_is M 44 44 s0 = true) (GX43_make s0 a1 M) ((fi (fm_is M 45 45 s0 = true) (GX39_make s0 a1 M) ((fi (fm_is M 46 46 s0 = true) (GX42_make s0 a1 M) ((fi (fm_is M 47 47 s0 = true) (GX41_make s0 a1 M) ((fi (fm_is M 48 48 s0 = true) (GX44_make s0 a1 M) ((fi (fm_is M 49 49 s0 = true) (GX40_make s0 a1 M) ((fi (fm_is M 50 50 s0 = true) (GX37_make s0 a1 M) (GX45_make s0 a1 M))))))))))))))))
    GX34_expand_41 r1.1 r1.2)
def HX34_expand_27 (a1 : Int32) (s0 : Nat) (M : FM) : Prop := ((s0 = 0 → True) ∧ (¬ (s0 = 0) → (((fm_is M 43 43 s0 = true → HX38_make s0 a1 M) ∧ (¬ (fm_is M 43 43 s0 = true) → ((fm_is M 44 44 s0 = true → HX43_make s0 a1 M) ∧ (¬ (fm_is M 44 44 s0 = true) → ((fm_is M 45 45 s0 = true → HX39_make s0 a1 M) ∧ (¬ (fm_is M 45 45 s0 = true) → ((fm_is M 46 46 s0 = true → HX42_make s0 a1 M) ∧ (¬ (fm_is M 46 46 s0 = true) → ((fm_is M 47 47 s0 = true → HX41_make s0 a1 M) ∧ (¬ (fm_is M 47 47 s0 = true) → ((fm_is M 48 48 s0 = true → HX44_make s0 a1 M) ∧ (¬ (fm_is M 48 48 s0 = true) → ((fm_is M 49 49 s0 = true → HX40_make s0 a1 M) ∧ (¬ (fm_is M 49 49 s0 = true) → ((fm_is M 50 50 s0 = true → HX37_make s0 a1 M) ∧ (¬ (fm_is M 50 50 s0 = true) → (fm_is M 51 51 s0 = true ∧ True))))))))))))))))) ∧ True)))
theorem gX34_expand_27 (a1 : Int32) (s0 : Nat) (M : FM) (T : Ty M) (h : HX34_expand_27 a1 s0 M) : gd (FX34_expand_27 fN a1 s0 M) (GX34_expand_27 a1 s0 M) (OkR M) := by
  delta FX34_expand_27 BX34_expand_27
  refine gd_fi (fun c0_0 => ?_) (fun c0_0 => ?_)
  · exact gd_tR (ext_r _) (gX34_expand_41 _ _ ⟨T.1, T.2⟩  )
  · refine gd_kb (gk_fi (gk_b _ _) (gk_fi (gk_b _ _) (gk_fi (gk_b _ _) (gk_fi (gk_b _ _) (gk_fi (gk_b _ _) (gk_fi (gk_b _ _) (gk_fi (gk_b _ _) (gk_fi (gk_b _ _) (gk_fi (gk_b _ _) gk_0))))))))) (gd_fi (fun c1 => (gX38_make _ _ _ ⟨T.1, T.2⟩ c1 ((h.2 c0_0).1.1 c1))) (fun c1 => (gd_fi (fun c2 => (gX43_make _ _ _ ⟨T.1, T.2⟩ c2 (((h.2 c0_0).1.2 c1).1 c2))) (fun c2 => (gd_fi (fun c3 => (gX39_make _ _ _ ⟨T.1, T.2⟩ c3 ((((h.2 c0_0).1.2 c1).2 c2).1 c3))) (fun c3 => (gd_fi (fun c4 => (gX42_make _ _ _ ⟨T.1, T.2⟩ c4 (((((h.2 c0_0).1.2 c1).2 c2).2 c3).1 c4))) (fun c4 => (gd_fi (fun c5 => (gX41_make _ _ _ ⟨T.1, T.2⟩ c5 ((((((h.2 c0_0).1.2 c1).2 c2).2 c3).2 c4).1 c5))) (fun c5 => (gd_fi (fun c6 => (gX44_make _ _ _ ⟨T.1, T.2⟩ c6 (((((((h.2 c0_0).1.2 c1).2 c2).2 c3).2 c4).2 c5).1 c6))) (fun c6 => (gd_fi (fun c7 => (gX40_make _ _ _ ⟨T.1, T.2⟩ c7 ((((((((h.2 c0_0).1.2 c1).2 c2).2 c3).2 c4).2 c5).2 c6).1 c7))) (fun c7 => (gd_fi (fun c8 => (gX37_make _ _ _ ⟨T.1, T.2⟩ c8 (((((((((h.2 c0_0).1.2 c1).2 c2).2 c3).2 c4).2 c5).2 c6).2 c7).1 c8))) (fun c8 => (gd_c (((((((((h.2 c0_0).1.2 c1).2 c2).2 c3).2 c4).2 c5).2 c6).2 c7).2 c8).1 (gX45_make _ _ _ ⟨T.1, T.2⟩  )))))))))))))))))) (fun K9 => ?_)
    exact gd_tR K9.2 (gX34_expand_41 _ _ ⟨K9.1.1, K9.1.2⟩  )
noncomputable def GX34_expand_0 (a0 : Nat) (a1 : Int32) (M : FM) : Int32 × FM :=
  let x1 : Int32 := (a1 &&& (Int32.ofInt 3))
  fi (x1 = (Int32.ofInt 3)) (
    GX34_expand_27 a1 0 M) (
    let x2 : Int32 := (((Int32.ofInt 8) * x1) + (a1 >>> ((Int32.ofInt 13) &&& 31)))
    let x3 : Nat := (M.2.2 142 a0 0)
    GX34_expand_27 a1 (M.2.2 3 x3 x2.toNatClampNeg) M)
def HX34_expand_0 (a0 : Nat) (a1 : Int32) (M : FM) : Prop := let x1 : Int32 := (a1 &&& (Int32.ofInt 3)); ((x1 = (Int32.ofInt 3) → HX34_expand_27 a1 0 M) ∧ (¬ (x1 = (Int32.ofInt 3)) → let x2 : Int32 := (((Int32.ofInt 8) * x1) + (a1 >>> ((Int32.ofInt 13) &&& 31))); let x3 : Nat := (M.2.2 142 a0 0); (fm_in M x3 x2 = true ∧ HX34_expand_27 a1 (M.2.2 3 x3 x2.toNatClampNeg) M)))
theorem gX34_expand_0 (a0 : Nat) (a1 : Int32) (M : FM) (T : Ty M) (n_a0 : fm_is M 52 52 a0 = true) (h : HX34_expand_0 a0 a1 M) : gd (FX34_expand_0 fN a0 a1 M) (GX34_expand_0 a0 a1 M) (OkR M) := by
  delta FX34_expand_0 BX34_expand_0
  refine gd_fi (fun c0_0 => ?_) (fun c0_0 => ?_)
  · exact gd_tR (ext_r _) (gX34_expand_27 _ _ _ ⟨T.1, T.2⟩  (h.1 c0_0))
  · refine gd_c n_a0 ?_
    have f1 := (fm_w (lo' := 910) (hi' := 990) rfl rfl (tN_142 T.1 n_a0))
    refine gd_c ⟨f1, (h.2 c0_0).1⟩ ?_
    exact gd_tR (ext_r _) (gX34_expand_27 _ _ _ ⟨T.1, T.2⟩  (h.2 c0_0).2)
noncomputable def GX34_expand (a0 : Nat) (a1 : Int32) (M : FM) : Int32 × FM := GX34_expand_0 a0 a1 M
def HX34_expand (a0 : Nat) (a1 : Int32) (M : FM) : Prop := HX34_expand_0 a0 a1 M
theorem gX34_expand (a0 : Nat) (a1 : Int32) (M : FM) (T : Ty M) (n_a0 : fm_is M 52 52 a0 = true) (h : HX34_expand a0 a1 M) : gd (FX34_expand fN a0 a1 M) (GX34_expand a0 a1 M) (OkR M) := gX34_expand_0 a0 a1 M T n_a0 h
noncomputable def GX46_keep_22 (a0 : Nat) (a1 : Nat) (a2 : Int64) (a4 : Int32) (a5 : Int32) (a6 : Int32) (s0 : Nat) (s1 : Int32) (M : FM) : FM :=
  let M1 : FM := fm_sI M 180 s0 0 s1
  let M2 : FM := fm_sL M1 181 a1 0 a2
  let x3 : Nat := (M2.2.2 210 a0 0)
  let x4 : Nat := (M2.2.2 18 x3 0)
  let r5 : Int32 × FM := GX11_pageOf a2 M2
  let x6 : Nat := (M2.2.2 204 x4 0)
  let M7 : FM := fm_sL r5.2 182 a1 0 (r5.2.2.1 3 x6 r5.1.toNatClampNeg)
  let M8 : FM := fm_sI M7 183 a1 0 a4
  let M9 : FM := fm_sI M8 185 a1 0 a5
  let M10 : FM := fm_sI M9 184 a1 0 a6
  M10
def HX46_keep_22 (a0 : Nat) (a1 : Nat) (a2 : Int64) (a4 : Int32) (a5 : Int32) (a6 : Int32) (s0 : Nat) (s1 : Int32) (M : FM) : Prop := let M1 : FM := fm_sI M 180 s0 0 s1; let M2 : FM := fm_sL M1 181 a1 0 a2; let x3 : Nat := (M2.2.2 210 a0 0); let x4 : Nat := (M2.2.2 18 x3 0); let r5 : Int32 × FM := GX11_pageOf a2 M2; let x6 : Nat := (M2.2.2 204 x4 0); (fm_in r5.2 x6 r5.1 = true ∧ True)
theorem gX46_keep_22 (a0 : Nat) (a1 : Nat) (a2 : Int64) (a4 : Int32) (a5 : Int32) (a6 : Int32) (s0 : Nat) (s1 : Int32) (M : FM) (T : Ty M) (n_s0 : fm_is M 65 65 s0 = true) (z_s1 : s1 = 0 ∨ s1 = 1) (n_a1 : fm_is M 65 65 a1 = true) (n_a0 : fm_is M 75 75 a0 = true) (h : HX46_keep_22 a0 a1 a2 a4 a5 a6 s0 s1 M) : gd (FX46_keep_22 a0 a1 a2 a4 a5 a6 s0 s1 M) (GX46_keep_22 a0 a1 a2 a4 a5 a6 s0 s1 M) (OkV M) := by
  delta FX46_keep_22 BX46_keep_22
  refine gd_c n_s0 ?_
  refine gd_c z_s1 ?_
  refine gd_c n_a1 ?_
  refine gd_c n_a0 ?_
  have f0 := (tN_210 T.1 n_a0)
  refine gd_c f0 ?_
  have f1 := (tN_18 T.1 (tN_210 T.1 n_a0))
  refine gd_c f1 ?_
  refine gd_b (gX11_pageOf _ _ ⟨T.1, (tyb_sIb (f := 180) rfl T.2 z_s1)⟩  ) (fun K2 => ?_)
  have f7 := (ext_is K2.2 (Nat.zero_lt_succ _) (tN_204 T.1 (tN_18 T.1 (tN_210 T.1 n_a0))))
  refine gd_c ⟨f7, h.1⟩ ?_
  have f3 := (ext_is K2.2 (Nat.zero_lt_succ _) n_a1)
  refine gd_c f3 ?_
  have f4 := (ext_is K2.2 (Nat.zero_lt_succ _) n_a1)
  refine gd_c f4 ?_
  have f5 := (ext_is K2.2 (Nat.zero_lt_succ _) n_a1)
  refine gd_c f5 ?_
  have f6 := (ext_is K2.2 (Nat.zero_lt_succ _) n_a1)
  refine gd_c f6 ?_
  exact ⟨rfl, ⟨K2.1.1, (tyb_sI (f := 184) rfl (tyb_sI (f := 185) rfl (tyb_sI (f := 183) rfl K2.1.2)))⟩, (ext_dI (ext_dL (ext_tr K2.2 (ext_dL (ext_dI (ext_dI (ext_dI (ext_r _))))))))⟩
noncomputable def GX46_keep_0 (a0 : Nat) (a1 : Nat) (a2 : Int64) (a4 : Int32) (a5 : Int32) (a6 : Int32) (M : FM) : FM :=
  fi (0 < (lg_cmp ((a2 &&& (Int64.ofInt 4095)) + a6.toInt64) (Int64.ofInt 4096))) (
    GX46_keep_22 a0 a1 a2 a4 a5 a6 a1 (Int32.ofInt 0) M) (
    GX46_keep_22 a0 a1 a2 a4 a5 a6 a1 (Int32.ofInt 1) M)
def HX46_keep_0 (a0 : Nat) (a1 : Nat) (a2 : Int64) (a4 : Int32) (a5 : Int32) (a6 : Int32) (M : FM) : Prop := ((0 < (lg_cmp ((a2 &&& (Int64.ofInt 4095)) + a6.toInt64) (Int64.ofInt 4096)) → HX46_keep_22 a0 a1 a2 a4 a5 a6 a1 (Int32.ofInt 0) M) ∧ (¬ (0 < (lg_cmp ((a2 &&& (Int64.ofInt 4095)) + a6.toInt64) (Int64.ofInt 4096))) → HX46_keep_22 a0 a1 a2 a4 a5 a6 a1 (Int32.ofInt 1) M))
theorem gX46_keep_0 (a0 : Nat) (a1 : Nat) (a2 : Int64) (a4 : Int32) (a5 : Int32) (a6 : Int32) (M : FM) (T : Ty M) (n_a1 : fm_is M 65 65 a1 = true) (n_a0 : fm_is M 75 75 a0 = true) (h : HX46_keep_0 a0 a1 a2 a4 a5 a6 M) : gd (FX46_keep_0 a0 a1 a2 a4 a5 a6 M) (GX46_keep_0 a0 a1 a2 a4 a5 a6 M) (OkV M) := by
  delta FX46_keep_0 BX46_keep_0
  refine gd_fi (fun c0_0 => ?_) (fun c0_0 => ?_)
  · exact gd_tV (ext_r _) (gX46_keep_22 _ _ _ _ _ _ _ _ _ ⟨T.1, T.2⟩ n_a1 fz_0 n_a1 n_a0 (h.1 c0_0))
  · exact gd_tV (ext_r _) (gX46_keep_22 _ _ _ _ _ _ _ _ _ ⟨T.1, T.2⟩ n_a1 fz_1 n_a1 n_a0 (h.2 c0_0))
noncomputable def GX46_keep (a0 : Nat) (a1 : Nat) (a2 : Int64) (a4 : Int32) (a5 : Int32) (a6 : Int32) (M : FM) : FM := GX46_keep_0 a0 a1 a2 a4 a5 a6 M
def HX46_keep (a0 : Nat) (a1 : Nat) (a2 : Int64) (a4 : Int32) (a5 : Int32) (a6 : Int32) (M : FM) : Prop := HX46_keep_0 a0 a1 a2 a4 a5 a6 M
theorem gX46_keep (a0 : Nat) (a1 : Nat) (a2 : Int64) (a4 : Int32) (a5 : Int32) (a6 : Int32) (M : FM) (T : Ty M) (n_a1 : fm_is M 65 65 a1 = true) (n_a0 : fm_is M 75 75 a0 = true) (h : HX46_keep a0 a1 a2 a4 a5 a6 M) : gd (FX46_keep a0 a1 a2 a4 a5 a6 M) (GX46_keep a0 a1 a2 a4 a5 a6 M) (OkV M) := gX46_keep_0 a0 a1 a2 a4 a5 a6 M T n_a1 n_a0 h
noncomputable def GX46_fetch_265 (a0 : Nat) (a3 : Nat) (M : FM) : Int32 × FM :=
  let M1 : FM := fm_sI M 219 a0 0 (M.1 183 a3 0)
  let M2 : FM := fm_sI M1 220 a0 0 (M1.1 185 a3 0)
  ((Int32.ofInt 1), M2)
theorem gX46_fetch_265 (a0 : Nat) (a3 : Nat) (M : FM) (T : Ty M) (n_a3 : fm_is M 65 65 a3 = true) (n_a0 : fm_is M 75 75 a0 = true) : gd (FX46_fetch_265 fN a0 a3 M) (GX46_fetch_265 a0 a3 M) (OkZ M) := by
  delta FX46_fetch_265 BX46_fetch_265
  refine gd_c n_a3 ?_
  refine gd_c n_a0 ?_
  refine gd_c n_a3 ?_
  refine gd_c n_a0 ?_
  exact gd_z fz_1 ⟨T.1, (tyb_sI (f := 220) rfl (tyb_sI (f := 219) rfl T.2))⟩ (ext_dI (ext_dI (ext_r _))) rfl
noncomputable def GX46_fetch_261 (a0 : Nat) (a3 : Nat) (s0 : Nat) (s1 : Int32) (s2 : Int32) (M : FM) : Int32 × FM :=
  let x1 : Int32 := (s1 &&& s2)
  let M2 : FM := fm_sI M 180 s0 0 x1
  GX46_fetch_265 a0 a3 M2
def HX46_fetch_261 (a0 : Nat) (a3 : Nat) (s0 : Nat) (s1 : Int32) (s2 : Int32) (M : FM) : Prop := let x1 : Int32 := (s1 &&& s2); ((x1 = 0 ∨ x1 = 1) ∧ True)
theorem gX46_fetch_261 (a0 : Nat) (a3 : Nat) (s0 : Nat) (s1 : Int32) (s2 : Int32) (M : FM) (T : Ty M) (n_s0 : fm_is M 65 65 s0 = true) (n_a3 : fm_is M 65 65 a3 = true) (n_a0 : fm_is M 75 75 a0 = true) (h : HX46_fetch_261 a0 a3 s0 s1 s2 M) : gd (FX46_fetch_261 fN a0 a3 s0 s1 s2 M) (GX46_fetch_261 a0 a3 s0 s1 s2 M) (OkZ M) := by
  delta FX46_fetch_261 BX46_fetch_261
  refine gd_c n_s0 ?_
  refine gd_c h.1 ?_
  exact gd_tZ (ext_dI (ext_r _)) (gX46_fetch_265 _ _ _ ⟨T.1, (tyb_sIb (f := 180) rfl T.2 h.1)⟩ n_a3 n_a0 )
noncomputable def GX46_fetch_209 (a0 : Nat) (a1 : Int64) (a3 : Nat) (a4 : Int64) (s0 : Int32) (M : FM) : Int32 × FM :=
  let x1 : Nat := (M.2.2 210 a0 0)
  let x2 : Nat := (M.2.2 18 x1 0)
  let r3 : Int64 × FM := GX11_load x2 a4 (Int32.ofInt 2) M
  let x4 : Int32 := (s0 ||| (r3.1.toInt32 <<< ((Int32.ofInt 16) &&& 31)))
  let M5 : FM := GX46_keep a0 a3 a1 x4 x4 (Int32.ofInt 4) r3.2
  fi ((lg_cmp a4 (a1 + (Int64.ofInt 2))) = 0) (
    GX46_fetch_261 a0 a3 a3 (M5.1 180 a3 0) (Int32.ofInt 1) M5) (
    GX46_fetch_261 a0 a3 a3 (M5.1 180 a3 0) (Int32.ofInt 0) M5)
def HX46_fetch_209 (a0 : Nat) (a1 : Int64) (a3 : Nat) (a4 : Int64) (s0 : Int32) (M : FM) : Prop := let x1 : Nat := (M.2.2 210 a0 0); let x2 : Nat := (M.2.2 18 x1 0); (HX11_load x2 a4 (Int32.ofInt 2) M ∧ let r3 : Int64 × FM := GX11_load x2 a4 (Int32.ofInt 2) M; let x4 : Int32 := (s0 ||| (r3.1.toInt32 <<< ((Int32.ofInt 16) &&& 31))); (HX46_keep a0 a3 a1 x4 x4 (Int32.ofInt 4) r3.2 ∧ let M5 : FM := GX46_keep a0 a3 a1 x4 x4 (Int32.ofInt 4) r3.2; (((lg_cmp a4 (a1 + (Int64.ofInt 2))) = 0 → HX46_fetch_261 a0 a3 a3 (M5.1 180 a3 0) (Int32.ofInt 1) M5) ∧ (¬ ((lg_cmp a4 (a1 + (Int64.ofInt 2))) = 0) → HX46_fetch_261 a0 a3 a3 (M5.1 180 a3 0) (Int32.ofInt 0) M5))))
theorem gX46_fetch_209 (a0 : Nat) (a1 : Int64) (a3 : Nat) (a4 : Int64) (s0 : Int32) (M : FM) (T : Ty M) (n_a0 : fm_is M 75 75 a0 = true) (n_a3 : fm_is M 65 65 a3 = true) (h : HX46_fetch_209 a0 a1 a3 a4 s0 M) : gd (FX46_fetch_209 fN a0 a1 a3 a4 s0 M) (GX46_fetch_209 a0 a1 a3 a4 s0 M) (OkZ M) := by
  delta FX46_fetch_209 BX46_fetch_209
  refine gd_c n_a0 ?_
  have f0 := (tN_210 T.1 n_a0)
  refine gd_c f0 ?_
  have f1 := (tN_18 T.1 (tN_210 T.1 n_a0))
  refine gd_c f1 ?_
  have f15 := (tN_18 T.1 (tN_210 T.1 n_a0))
  refine gd_b (gX11_load _ _ _ _ ⟨T.1, T.2⟩ f15 h.1) (fun K2 => ?_)
  have f3 := (ext_is K2.2 (Nat.zero_lt_succ _) n_a0)
  refine gd_c f3 ?_
  have f13 := (ext_is K2.2 (Nat.zero_lt_succ _) n_a3)
  have f14 := (ext_is K2.2 (Nat.zero_lt_succ _) n_a0)
  refine gd_b (gX46_keep _ _ _ _ _ _ _ ⟨K2.1.1, K2.1.2⟩ f13 f14 h.2.1) (fun K4 => ?_)
  have f5 := (ext_is K4.2 (Nat.zero_lt_succ _) (ext_is K2.2 (Nat.zero_lt_succ _) n_a3))
  refine gd_c f5 ?_
  refine gd_fi (fun c6_0 => ?_) (fun c6_0 => ?_)
  · have f7 := (ext_is K4.2 (Nat.zero_lt_succ _) (ext_is K2.2 (Nat.zero_lt_succ _) n_a3))
    have f8 := (ext_is K4.2 (Nat.zero_lt_succ _) (ext_is K2.2 (Nat.zero_lt_succ _) n_a3))
    have f9 := (ext_is K4.2 (Nat.zero_lt_succ _) (ext_is K2.2 (Nat.zero_lt_succ _) n_a0))
    exact gd_tZ (ext_tr K2.2 K4.2) (gX46_fetch_261 _ _ _ _ _ _ ⟨K4.1.1, K4.1.2⟩ f7 f8 f9 (h.2.2.1 c6_0))
  · have f10 := (ext_is K4.2 (Nat.zero_lt_succ _) (ext_is K2.2 (Nat.zero_lt_succ _) n_a3))
    have f11 := (ext_is K4.2 (Nat.zero_lt_succ _) (ext_is K2.2 (Nat.zero_lt_succ _) n_a3))
    have f12 := (ext_is K4.2 (Nat.zero_lt_succ _) (ext_is K2.2 (Nat.zero_lt_succ _) n_a0))
    exact gd_tZ (ext_tr K2.2 K4.2) (gX46_fetch_261 _ _ _ _ _ _ ⟨K4.1.1, K4.1.2⟩ f10 f11 f12 (h.2.2.2 c6_0))
noncomputable def GX46_fetch_182 (a0 : Nat) (a1 : Int64) (a3 : Nat) (a4 : Int64) (M : FM) : Int32 × FM :=
  fi ((M.1 180 a3 0) = 0) (
    GX46_fetch_209 a0 a1 a3 a4 (M.1 185 a3 0) M) (
    let x1 : Nat := (M.2.2 210 a0 0)
    let x2 : Nat := (M.2.2 18 x1 0)
    let r3 : Int64 × FM := GX11_load x2 a1 (Int32.ofInt 2) M
    GX46_fetch_209 a0 a1 a3 a4 r3.1.toInt32 r3.2)
def HX46_fetch_182 (a0 : Nat) (a1 : Int64) (a3 : Nat) (a4 : Int64) (M : FM) : Prop := (((M.1 180 a3 0) = 0 → HX46_fetch_209 a0 a1 a3 a4 (M.1 185 a3 0) M) ∧ (¬ ((M.1 180 a3 0) = 0) → let x1 : Nat := (M.2.2 210 a0 0); let x2 : Nat := (M.2.2 18 x1 0); (HX11_load x2 a1 (Int32.ofInt 2) M ∧ let r3 : Int64 × FM := GX11_load x2 a1 (Int32.ofInt 2) M; HX46_fetch_209 a0 a1 a3 a4 r3.1.toInt32 r3.2)))
theorem gX46_fetch_182 (a0 : Nat) (a1 : Int64) (a3 : Nat) (a4 : Int64) (M : FM) (T : Ty M) (n_a3 : fm_is M 65 65 a3 = true) (n_a0 : fm_is M 75 75 a0 = true) (h : HX46_fetch_182 a0 a1 a3 a4 M) : gd (FX46_fetch_182 fN a0 a1 a3 a4 M) (GX46_fetch_182 a0 a1 a3 a4 M) (OkZ M) := by
  delta FX46_fetch_182 BX46_fetch_182
  refine gd_c n_a3 ?_
  refine gd_fi (fun c0_0 => ?_) (fun c0_0 => ?_)
  · refine gd_c n_a3 ?_
    exact gd_tZ (ext_r _) (gX46_fetch_209 _ _ _ _ _ _ ⟨T.1, T.2⟩ n_a0 n_a3 (h.1 c0_0))
  · refine gd_c n_a0 ?_
    have f1 := (tN_210 T.1 n_a0)
    refine gd_c f1 ?_
    have f2 := (tN_18 T.1 (tN_210 T.1 n_a0))
    refine gd_c f2 ?_
    have f6 := (tN_18 T.1 (tN_210 T.1 n_a0))
    refine gd_b (gX11_load _ _ _ _ ⟨T.1, T.2⟩ f6 (h.2 c0_0).1) (fun K3 => ?_)
    have f4 := (ext_is K3.2 (Nat.zero_lt_succ _) n_a0)
    have f5 := (ext_is K3.2 (Nat.zero_lt_succ _) n_a3)
    exact gd_tZ K3.2 (gX46_fetch_209 _ _ _ _ _ _ ⟨K3.1.1, K3.1.2⟩ f4 f5 (h.2 c0_0).2)
noncomputable def GX46_fetch_127 (a0 : Nat) (a1 : Int64) (a3 : Nat) (M : FM) : Int32 × FM :=
  let M1 : FM := fm_sI M 221 a0 0 (M.1 184 a3 0)
  fi ((M1.1 221 a0 0) = (Int32.ofInt 4)) (
    let r2 : Int64 × FM := GX46_half a0 (Int32.ofInt 2) M1
    fi (0 ≤ (lg_cmp r2.1 (Int64.ofInt 0))) (
      fi ((r2.2.1 180 a3 0) = 0) (
        GX46_fetch_182 a0 a1 a3 r2.1 r2.2) (
        fi ((lg_cmp r2.1 (a1 + (Int64.ofInt 2))) = 0) (
          GX46_fetch_265 a0 a3 r2.2) (
          GX46_fetch_182 a0 a1 a3 r2.1 r2.2))) (
      let M3 : FM := fm_sI r2.2 180 a3 0 (Int32.ofInt 0)
      ((Int32.ofInt 0), M3))) (
    GX46_fetch_265 a0 a3 M1)
def HX46_fetch_127 (a0 : Nat) (a1 : Int64) (a3 : Nat) (M : FM) : Prop := let M1 : FM := fm_sI M 221 a0 0 (M.1 184 a3 0); (((M1.1 221 a0 0) = (Int32.ofInt 4) → (HX46_half a0 (Int32.ofInt 2) M1 ∧ let r2 : Int64 × FM := GX46_half a0 (Int32.ofInt 2) M1; ((0 ≤ (lg_cmp r2.1 (Int64.ofInt 0)) → (((r2.2.1 180 a3 0) = 0 → HX46_fetch_182 a0 a1 a3 r2.1 r2.2) ∧ (¬ ((r2.2.1 180 a3 0) = 0) → (((lg_cmp r2.1 (a1 + (Int64.ofInt 2))) = 0 → True) ∧ (¬ ((lg_cmp r2.1 (a1 + (Int64.ofInt 2))) = 0) → HX46_fetch_182 a0 a1 a3 r2.1 r2.2))))) ∧ (¬ (0 ≤ (lg_cmp r2.1 (Int64.ofInt 0))) → True)))) ∧ (¬ ((M1.1 221 a0 0) = (Int32.ofInt 4)) → True))
theorem gX46_fetch_127 (a0 : Nat) (a1 : Int64) (a3 : Nat) (M : FM) (T : Ty M) (n_a3 : fm_is M 65 65 a3 = true) (n_a0 : fm_is M 75 75 a0 = true) (h : HX46_fetch_127 a0 a1 a3 M) : gd (FX46_fetch_127 fN a0 a1 a3 M) (GX46_fetch_127 a0 a1 a3 M) (OkZ M) := by
  delta FX46_fetch_127 BX46_fetch_127
  refine gd_c n_a3 ?_
  refine gd_c n_a0 ?_
  refine gd_c n_a0 ?_
  refine gd_fi (fun c0_0 => ?_) (fun c0_0 => ?_)
  · refine gd_c n_a0 ?_
    refine gd_b (gX46_half _ _ _ ⟨T.1, (tyb_sI (f := 221) rfl T.2)⟩ n_a0 (h.1 c0_0).1) (fun K1 => ?_)
    refine gd_fi (fun c2_0 => ?_) (fun c2_0 => ?_)
    · have f3 := (ext_is K1.2 (Nat.zero_lt_succ _) n_a3)
      refine gd_c f3 ?_
      refine gd_fi (fun c4_0 => ?_) (fun c4_0 => ?_)
      · have f5 := (ext_is K1.2 (Nat.zero_lt_succ _) n_a3)
        have f6 := (ext_is K1.2 (Nat.zero_lt_succ _) n_a0)
        exact gd_tZ (ext_dI K1.2) (gX46_fetch_182 _ _ _ _ _ ⟨K1.1.1, K1.1.2⟩ f5 f6 (((h.1 c0_0).2.1 c2_0).1 c4_0))
      · refine gd_fi (fun c7_0 => ?_) (fun c7_0 => ?_)
        · have f8 := (ext_is K1.2 (Nat.zero_lt_succ _) n_a3)
          have f9 := (ext_is K1.2 (Nat.zero_lt_succ _) n_a0)
          exact gd_tZ (ext_dI K1.2) (gX46_fetch_265 _ _ _ ⟨K1.1.1, K1.1.2⟩ f8 f9 )
        · have f10 := (ext_is K1.2 (Nat.zero_lt_succ _) n_a3)
          have f11 := (ext_is K1.2 (Nat.zero_lt_succ _) n_a0)
          exact gd_tZ (ext_dI K1.2) (gX46_fetch_182 _ _ _ _ _ ⟨K1.1.1, K1.1.2⟩ f10 f11 ((((h.1 c0_0).2.1 c2_0).2 c4_0).2 c7_0))
    · have f12 := (ext_is K1.2 (Nat.zero_lt_succ _) n_a3)
      refine gd_c f12 ?_
      refine gd_c fz_0 ?_
      exact gd_z fz_0 ⟨K1.1.1, (tyb_sIb (f := 180) rfl K1.1.2 fz_0)⟩ (ext_dI (ext_tr K1.2 (ext_dI (ext_r _)))) rfl
  · exact gd_tZ (ext_dI (ext_r _)) (gX46_fetch_265 _ _ _ ⟨T.1, (tyb_sI (f := 221) rfl T.2)⟩ n_a3 n_a0 )
noncomputable def GX46_fetch_67 (a0 : Nat) (a1 : Int64) (a3 : Nat) (M : FM) : Int32 × FM :=
  let M1 : FM := fm_sI M 180 a3 0 (Int32.ofInt 0)
  let x2 : Nat := (M1.2.2 210 a0 0)
  let x3 : Nat := (M1.2.2 18 x2 0)
  let r4 : Int64 × FM := GX11_load x3 a1 (Int32.ofInt 2) M1
  let x5 : Int32 := r4.1.toInt32
  fi ((x5 &&& (Int32.ofInt 3)) = (Int32.ofInt 3)) (
    let M6 : FM := fm_sI r4.2 184 a3 0 (Int32.ofInt 4)
    let M7 : FM := fm_sI M6 185 a3 0 x5
    GX46_fetch_127 a0 a1 a3 M7) (
    let x8 : Nat := (r4.2.2.2 215 a0 0)
    let r9 : Int32 × FM := GX34_expand x8 x5 r4.2
    let M10 : FM := GX46_keep a0 a3 a1 r9.1 x5 (Int32.ofInt 2) r9.2
    GX46_fetch_127 a0 a1 a3 M10)
def HX46_fetch_67 (a0 : Nat) (a1 : Int64) (a3 : Nat) (M : FM) : Prop := let M1 : FM := fm_sI M 180 a3 0 (Int32.ofInt 0); let x2 : Nat := (M1.2.2 210 a0 0); let x3 : Nat := (M1.2.2 18 x2 0); (HX11_load x3 a1 (Int32.ofInt 2) M1 ∧ let r4 : Int64 × FM := GX11_load x3 a1 (Int32.ofInt 2) M1; let x5 : Int32 := r4.1.toInt32; (((x5 &&& (Int32.ofInt 3)) = (Int32.ofInt 3) → let M6 : FM := fm_sI r4.2 184 a3 0 (Int32.ofInt 4); let M7 : FM := fm_sI M6 185 a3 0 x5; HX46_fetch_127 a0 a1 a3 M7) ∧ (¬ ((x5 &&& (Int32.ofInt 3)) = (Int32.ofInt 3)) → let x8 : Nat := (r4.2.2.2 215 a0 0); (HX34_expand x8 x5 r4.2 ∧ let r9 : Int32 × FM := GX34_expand x8 x5 r4.2; (HX46_keep a0 a3 a1 r9.1 x5 (Int32.ofInt 2) r9.2 ∧ let M10 : FM := GX46_keep a0 a3 a1 r9.1 x5 (Int32.ofInt 2) r9.2; HX46_fetch_127 a0 a1 a3 M10)))))
theorem gX46_fetch_67 (a0 : Nat) (a1 : Int64) (a3 : Nat) (M : FM) (T : Ty M) (n_a3 : fm_is M 65 65 a3 = true) (n_a0 : fm_is M 75 75 a0 = true) (h : HX46_fetch_67 a0 a1 a3 M) : gd (FX46_fetch_67 fN a0 a1 a3 M) (GX46_fetch_67 a0 a1 a3 M) (OkZ M) := by
  delta FX46_fetch_67 BX46_fetch_67
  refine gd_c n_a3 ?_
  refine gd_c fz_0 ?_
  refine gd_c n_a0 ?_
  have f0 := (tN_210 T.1 n_a0)
  refine gd_c f0 ?_
  have f1 := (tN_18 T.1 (tN_210 T.1 n_a0))
  refine gd_c f1 ?_
  have f18 := (tN_18 T.1 (tN_210 T.1 n_a0))
  refine gd_b (gX11_load _ _ _ _ ⟨T.1, (tyb_sIb (f := 180) rfl T.2 fz_0)⟩ f18 h.1) (fun K2 => ?_)
  refine gd_fi (fun c3_0 => ?_) (fun c3_0 => ?_)
  · have f4 := (ext_is K2.2 (Nat.zero_lt_succ _) n_a3)
    refine gd_c f4 ?_
    have f5 := (ext_is K2.2 (Nat.zero_lt_succ _) n_a3)
    refine gd_c f5 ?_
    have f6 := (ext_is K2.2 (Nat.zero_lt_succ _) n_a3)
    have f7 := (ext_is K2.2 (Nat.zero_lt_succ _) n_a0)
    exact gd_tZ (ext_dI (ext_tr K2.2 (ext_dI (ext_dI (ext_r _))))) (gX46_fetch_127 _ _ _ _ ⟨K2.1.1, (tyb_sI (f := 185) rfl (tyb_sI (f := 184) rfl K2.1.2))⟩ f6 f7 (h.2.1 c3_0))
  · have f8 := (ext_is K2.2 (Nat.zero_lt_succ _) n_a0)
    refine gd_c f8 ?_
    have f9 := (tN_215 K2.1.1 (ext_is K2.2 (Nat.zero_lt_succ _) n_a0))
    refine gd_c f9 ?_
    have f17 := (tN_215 K2.1.1 (ext_is K2.2 (Nat.zero_lt_succ _) n_a0))
    refine gd_b (gX34_expand _ _ _ ⟨K2.1.1, K2.1.2⟩ f17 (h.2.2 c3_0).1) (fun K10 => ?_)
    have f11 := (ext_is K10.2 (Nat.zero_lt_succ _) (ext_is K2.2 (Nat.zero_lt_succ _) n_a0))
    refine gd_c f11 ?_
    have f15 := (ext_is K10.2 (Nat.zero_lt_succ _) (ext_is K2.2 (Nat.zero_lt_succ _) n_a3))
    have f16 := (ext_is K10.2 (Nat.zero_lt_succ _) (ext_is K2.2 (Nat.zero_lt_succ _) n_a0))
    refine gd_b (gX46_keep _ _ _ _ _ _ _ ⟨K10.1.1, K10.1.2⟩ f15 f16 (h.2.2 c3_0).2.1) (fun K12 => ?_)
    have f13 := (ext_is K12.2 (Nat.zero_lt_succ _) (ext_is K10.2 (Nat.zero_lt_succ _) (ext_is K2.2 (Nat.zero_lt_succ _) n_a3)))
    have f14 := (ext_is K12.2 (Nat.zero_lt_succ _) (ext_is K10.2 (Nat.zero_lt_succ _) (ext_is K2.2 (Nat.zero_lt_succ _) n_a0)))
    exact gd_tZ (ext_dI (ext_tr K2.2 (ext_tr K10.2 K12.2))) (gX46_fetch_127 _ _ _ _ ⟨K12.1.1, K12.1.2⟩ f13 f14 (h.2.2 c3_0).2.2)
noncomputable def GX46_fetch_0 (a0 : Nat) (M : FM) : Int32 × FM :=
  let r1 : Int64 × FM := GX46_half a0 (Int32.ofInt 0) M
  fi (0 ≤ (lg_cmp r1.1 (Int64.ofInt 0))) (
    let x2 : Int32 := ((r1.1 >>> ((Int32.ofInt 1).toInt64 &&& 63)).toInt32 &&& (Int32.ofInt 511))
    let x3 : Nat := (r1.2.2.2 216 a0 0)
    let x4 : Nat := (r1.2.2.2 3 x3 x2.toNatClampNeg)
    fi ((r1.2.1 180 x4 0) = 0) (
      GX46_fetch_67 a0 r1.1 x4 r1.2) (
      fi ((lg_cmp (r1.2.2.1 181 x4 0) r1.1) = 0) (
        let x5 : Nat := (r1.2.2.2 210 a0 0)
        let x6 : Nat := (r1.2.2.2 18 x5 0)
        let r7 : Int32 × FM := GX11_pageOf r1.1 r1.2
        let x8 : Nat := (r1.2.2.2 204 x6 0)
        fi ((lg_cmp (r1.2.2.1 182 x4 0) (r7.2.2.1 3 x8 r7.1.toNatClampNeg)) = 0) (
          GX46_fetch_127 a0 r1.1 x4 r7.2) (
          GX46_fetch_67 a0 r1.1 x4 r7.2)) (
        GX46_fetch_67 a0 r1.1 x4 r1.2))) (
    ((Int32.ofInt 0), r1.2))
def HX46_fetch_0 (a0 : Nat) (M : FM) : Prop := (HX46_half a0 (Int32.ofInt 0) M ∧ let r1 : Int64 × FM := GX46_half a0 (Int32.ofInt 0) M; ((0 ≤ (lg_cmp r1.1 (Int64.ofInt 0)) → let x2 : Int32 := ((r1.1 >>> ((Int32.ofInt 1).toInt64 &&& 63)).toInt32 &&& (Int32.ofInt 511)); let x3 : Nat := (r1.2.2.2 216 a0 0); (fm_in r1.2 x3 x2 = true ∧ let x4 : Nat := (r1.2.2.2 3 x3 x2.toNatClampNeg); (((r1.2.1 180 x4 0) = 0 → HX46_fetch_67 a0 r1.1 x4 r1.2) ∧ (¬ ((r1.2.1 180 x4 0) = 0) → (((lg_cmp (r1.2.2.1 181 x4 0) r1.1) = 0 → let x5 : Nat := (r1.2.2.2 210 a0 0); let x6 : Nat := (r1.2.2.2 18 x5 0); let r7 : Int32 × FM := GX11_pageOf r1.1 r1.2; let x8 : Nat := (r1.2.2.2 204 x6 0); (fm_in r7.2 x8 r7.1 = true ∧ (((lg_cmp (r1.2.2.1 182 x4 0) (r7.2.2.1 3 x8 r7.1.toNatClampNeg)) = 0 → HX46_fetch_127 a0 r1.1 x4 r7.2) ∧ (¬ ((lg_cmp (r1.2.2.1 182 x4 0) (r7.2.2.1 3 x8 r7.1.toNatClampNeg)) = 0) → HX46_fetch_67 a0 r1.1 x4 r7.2)))) ∧ (¬ ((lg_cmp (r1.2.2.1 181 x4 0) r1.1) = 0) → HX46_fetch_67 a0 r1.1 x4 r1.2)))))) ∧ (¬ (0 ≤ (lg_cmp r1.1 (Int64.ofInt 0))) → True)))
theorem gX46_fetch_0 (a0 : Nat) (M : FM) (T : Ty M) (n_a0 : fm_is M 75 75 a0 = true) (h : HX46_fetch_0 a0 M) : gd (FX46_fetch_0 fN a0 M) (GX46_fetch_0 a0 M) (OkZ M) := by
  delta FX46_fetch_0 BX46_fetch_0
  refine gd_c n_a0 ?_
  refine gd_b (gX46_half _ _ _ ⟨T.1, T.2⟩ n_a0 h.1) (fun K0 => ?_)
  refine gd_fi (fun c1_0 => ?_) (fun c1_0 => ?_)
  · have f2 := (ext_is K0.2 (Nat.zero_lt_succ _) n_a0)
    refine gd_c f2 ?_
    have f23 := (fm_w (lo' := 910) (hi' := 990) rfl rfl (tN_216 K0.1.1 (ext_is K0.2 (Nat.zero_lt_succ _) n_a0)))
    refine gd_c ⟨f23, (h.2.1 c1_0).1⟩ ?_
    have f3 := (tE_918 K0.1.1 (tN_216 K0.1.1 (ext_is K0.2 (Nat.zero_lt_succ _) n_a0)) (h.2.1 c1_0).1)
    refine gd_c f3 ?_
    refine gd_fi (fun c4_0 => ?_) (fun c4_0 => ?_)
    · have f5 := (tE_918 K0.1.1 (tN_216 K0.1.1 (ext_is K0.2 (Nat.zero_lt_succ _) n_a0)) (h.2.1 c1_0).1)
      have f6 := (ext_is K0.2 (Nat.zero_lt_succ _) n_a0)
      exact gd_tZ K0.2 (gX46_fetch_67 _ _ _ _ ⟨K0.1.1, K0.1.2⟩ f5 f6 ((h.2.1 c1_0).2.1 c4_0))
    · have f7 := (tE_918 K0.1.1 (tN_216 K0.1.1 (ext_is K0.2 (Nat.zero_lt_succ _) n_a0)) (h.2.1 c1_0).1)
      refine gd_c f7 ?_
      refine gd_fi (fun c8_0 => ?_) (fun c8_0 => ?_)
      · have f9 := (tE_918 K0.1.1 (tN_216 K0.1.1 (ext_is K0.2 (Nat.zero_lt_succ _) n_a0)) (h.2.1 c1_0).1)
        refine gd_c f9 ?_
        have f10 := (ext_is K0.2 (Nat.zero_lt_succ _) n_a0)
        refine gd_c f10 ?_
        have f11 := (tN_210 K0.1.1 (ext_is K0.2 (Nat.zero_lt_succ _) n_a0))
        refine gd_c f11 ?_
        have f12 := (tN_18 K0.1.1 (tN_210 K0.1.1 (ext_is K0.2 (Nat.zero_lt_succ _) n_a0)))
        refine gd_c f12 ?_
        refine gd_b (gX11_pageOf _ _ ⟨K0.1.1, K0.1.2⟩  ) (fun K13 => ?_)
        have f19 := (ext_is K13.2 (Nat.zero_lt_succ _) (tN_204 K0.1.1 (tN_18 K0.1.1 (tN_210 K0.1.1 (ext_is K0.2 (Nat.zero_lt_succ _) n_a0)))))
        have f20 := (((h.2.1 c1_0).2.2 c4_0).1 c8_0).1
        refine gd_c ⟨f19, f20⟩ ?_
        refine gd_fi (fun c14_0 => ?_) (fun c14_0 => ?_)
        · have f15 := (ext_is K13.2 (Nat.zero_lt_succ _) (tE_918 K0.1.1 (tN_216 K0.1.1 (ext_is K0.2 (Nat.zero_lt_succ _) n_a0)) (h.2.1 c1_0).1))
          have f16 := (ext_is K13.2 (Nat.zero_lt_succ _) (ext_is K0.2 (Nat.zero_lt_succ _) n_a0))
          exact gd_tZ (ext_tr K0.2 K13.2) (gX46_fetch_127 _ _ _ _ ⟨K13.1.1, K13.1.2⟩ f15 f16 ((((h.2.1 c1_0).2.2 c4_0).1 c8_0).2.1 c14_0))
        · have f17 := (ext_is K13.2 (Nat.zero_lt_succ _) (tE_918 K0.1.1 (tN_216 K0.1.1 (ext_is K0.2 (Nat.zero_lt_succ _) n_a0)) (h.2.1 c1_0).1))
          have f18 := (ext_is K13.2 (Nat.zero_lt_succ _) (ext_is K0.2 (Nat.zero_lt_succ _) n_a0))
          exact gd_tZ (ext_tr K0.2 K13.2) (gX46_fetch_67 _ _ _ _ ⟨K13.1.1, K13.1.2⟩ f17 f18 ((((h.2.1 c1_0).2.2 c4_0).1 c8_0).2.2 c14_0))
      · have f21 := (tE_918 K0.1.1 (tN_216 K0.1.1 (ext_is K0.2 (Nat.zero_lt_succ _) n_a0)) (h.2.1 c1_0).1)
        have f22 := (ext_is K0.2 (Nat.zero_lt_succ _) n_a0)
        exact gd_tZ K0.2 (gX46_fetch_67 _ _ _ _ ⟨K0.1.1, K0.1.2⟩ f21 f22 (((h.2.1 c1_0).2.2 c4_0).2 c8_0))
  · exact gd_z fz_0 ⟨K0.1.1, K0.1.2⟩ K0.2 rfl
noncomputable def GX46_fetch (a0 : Nat) (M : FM) : Int32 × FM := GX46_fetch_0 a0 M
def HX46_fetch (a0 : Nat) (M : FM) : Prop := HX46_fetch_0 a0 M
theorem gX46_fetch (a0 : Nat) (M : FM) (T : Ty M) (n_a0 : fm_is M 75 75 a0 = true) (h : HX46_fetch a0 M) : gd (FX46_fetch fN a0 M) (GX46_fetch a0 M) (OkZ M) := gX46_fetch_0 a0 M T n_a0 h
