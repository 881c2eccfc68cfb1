/-! images: what is wrong with one, all of it (the component) -/
set_option maxRecDepth 100000
section Lg
variable {l n t k q many : Nat} {M : FM} {X : Nat → Nat}
theorem X90_beg (V : LdV l M X n) : HX90_begins l M ∧ GX90_begins l M = (bz (nmV X 0 7 = 282584257676671), M) := by
  obtain ⟨p1, g1⟩ := nu (s := 7) V (a1 := Int64.ofInt 0) (a := 0) rfl (by decide) (by decide)
  have g1 : GX90_number l (Int64.ofInt 0) (Int32.ofInt 7) M = _ := g1
  have c : lg_cmp (lN (nmV X 0 7)) (Int64.ofInt 282584257676671) = 0 ↔ nmV X 0 7 = 282584257676671 := lgE (by have := nmV_lt V.2.2.2.1.1 7 0; omega) (by decide)
  refine ⟨⟨p1, trivial⟩, ?_⟩
  unfold GX90_begins GX90_begins_0 GX90_begins_19
  dsimp only
  rw [g1]
  dsimp only
  by_cases h : nmV X 0 7 = 282584257676671
  · rw [fi_pos (c.mpr h), bz_t h]
  · rw [fi_neg (fun z => h (c.mp z)), bz_f h]
theorem n_z {a : Nat} (h : a < 100) : nI a ≤ 0 ↔ a = 0 := by
  have := n_le (a := a) (b := 0) (by omega) (by omega)
  exact ⟨fun z => by have := this.mp z; omega, fun z => this.mpr (by omega)⟩
theorem ev_2 {v : Nat} (hv : v < 18446744073709551616) : lg_cmp (lN v &&& Int64.ofInt 1) (Int64.ofInt 0) = 0 ↔ v % 2 = 0 := by
  rw [cl_eq, ul_and, lN_m v hv, show ul (Int64.ofInt 1) = 1 from rfl, show ul (Int64.ofInt 0) = 0 from rfl, Nat.and_one_is_mod]
theorem fa_L (V : LdV l M X n) (hm : many ≤ 16) (ht : t + 56 * many ≤ 65536) : ∀ m j k, k + m = many → m < j → FX90_fault_L155 fN j l (lN t) (nI many) (nI k) M = some (nI (fi (psF X n t k m = 0) (fi (enO X) 0 8) (psF X n t k m)), M) := by
  intro m
  induction m with
  | zero =>
    intro j k hk hj
    obtain ⟨j, rfl⟩ : ∃ y, j = y + 1 := ⟨j - 1, by omega⟩
    have c1 : nI many ≤ nI k := (n_le (by omega) (by omega)).mpr (by omega)
    obtain ⟨p1, g1⟩ := nu (s := 8) V (a1 := Int64.ofInt 24) (a := 24) rfl (by decide) (by decide)
    have g1 : GX90_number l (Int64.ofInt 24) (Int32.ofInt 8) M = _ := g1
    have u := nm_8 V.2.2.2.1.1 24
    have hs : GX11_has (M.2.2 187 l 0) (lN (nmV X 24 8)) (Int64.ofInt 1) M = (bz (inR (lN (nmV X 24 8)) 1), M) := X11_has V.2.2.2.2 (by decide)
    show FX90_fault_155 fN (FX90_fault_L155 fN j) l (lN t) (nI many) (nI k) M = _
    rw [(gX90_fault_155 (FX90_fault_L155 fN j) l (lN t) (nI many) (nI k) M V.1 V.2.1 ⟨fun _ => ⟨p1, trivial⟩, fun z => absurd c1 z⟩).1]
    unfold GX90_fault_155 GX90_fault_231 GX90_fault_237
    dsimp only
    rw [fi_pos c1, g1]
    dsimp only
    rw [hs]
    dsimp only
    rw [fi_bz, fi_pos (show psF X n t k 0 = 0 from rfl)]
    unfold enO
    by_cases h : nmV X 24 8 % 2 = 0
    · rw [fi_pos ((ev_2 u).mpr h)]
      by_cases h2 : inR (lN (nmV X 24 8)) 1
      · rw [fi_pos h2, fi_pos ⟨h, h2⟩]
        rfl
      · rw [fi_neg h2, fi_neg (fun z => h2 z.2)]
        rfl
    · rw [fi_neg (fun z => h ((ev_2 u).mp z)), fi_neg (fun z => h z.1)]
      rfl
  | succ m ih =>
    intro j k hk hj
    obtain ⟨j, rfl⟩ : ∃ y, j = y + 1 := ⟨j - 1, by omega⟩
    have c1 : ¬ nI many ≤ nI k := fun z => by
      have := (n_le (by omega) (by omega)).mp z
      omega
    obtain ⟨p1, g1⟩ := X90_isS (t := t) (k := k) V (by omega) (by omega)
    obtain ⟨p2, g2⟩ := X90_sgF (t := t) (k := k) V (by omega) (by omega)
    have H : HX90_fault_155 l (lN t) (nI many) (nI k) M := by
      unfold HX90_fault_155
      dsimp only
      rw [g1]
      exact ⟨fun z => absurd z c1, fun _ => ⟨p1, fun _ => trivial, fun _ => ⟨p2, trivial⟩⟩⟩
    show FX90_fault_155 fN (FX90_fault_L155 fN j) l (lN t) (nI many) (nI k) M = _
    rw [(gX90_fault_155 (FX90_fault_L155 fN j) l (lN t) (nI many) (nI k) M V.1 V.2.1 H).1]
    unfold GX90_fault_155
    dsimp only
    rw [fi_neg c1, g1]
    dsimp only
    rw [g2]
    dsimp only
    have K : ∀ a : Nat, a < 100 → a = ptF X n t k → kX90_fault (FX90_fault_L155 fN j) (GX90_fault_182 l (lN t) (nI many) (nI k) (nI a) M) = some (nI (fi (psF X n t k (m + 1) = 0) (fi (enO X) 0 8) (psF X n t k (m + 1))), M) := by
      intro a ha e
      have ep : psF X n t k (m + 1) = fi (ptF X n t k = 0) (psF X n t (k + 1) m) (ptF X n t k) := rfl
      rw [ep, ← e]
      unfold GX90_fault_182
      dsimp only
      by_cases h : a = 0
      · rw [fi_pos ((n_z ha).mpr h), fi_pos h, show nI k + Int32.ofInt 1 = nI (k + 1) from nI_a (n := 1)]
        exact ih j (k + 1) (by omega) (by omega)
      · rw [fi_neg (fun z => h ((n_z ha).mp z)), fi_neg h, fi_neg h]
        rfl
    rw [fi_bz]
    by_cases h : isS X (t + 56 * k)
    · rw [fi_pos h]
      exact K _ (by have := sgF_lt (X := X) (n := n) (t := t) (k := k); omega) (fi_pos h).symm
    · rw [fi_neg h]
      exact K 0 (by decide) (fi_neg h).symm
theorem n_s {a b : Nat} (ha : a < 65536) (hb : b < 65536) : nI a < nI b ↔ a < b := n_lt (by omega) (by omega)
theorem X90_fault (V : LdV l M X n) : HX90_fault l M ∧ GX90_fault l M = (nI (imF X n), M) := by
  have hb := V.2.2.2.1.1
  have hn := V.2.2.2.1.2
  have sz : M.1 262 (M.2.2 186 l 0) 0 = nI n := V.2.2.1.2.2.1
  have k64 : Int32.ofInt 64 ≤ nI n ↔ 64 ≤ n := n_le (a := 64) (by decide) (by omega)
  have Ax : FX90_fault fN l M = some (nI (imF X n), M) := by
    show FX90_fault_0 fN (FX90_fault_L155 fN fN) l M = _
    by_cases h0 : 64 ≤ n
    · obtain ⟨p0, g0⟩ := X90_beg V
      obtain ⟨p1, g1⟩ := nu (s := 2) V (a1 := Int64.ofInt 16) (a := 16) rfl (by decide) (by decide)
      obtain ⟨p2, g2⟩ := nu (s := 2) V (a1 := Int64.ofInt 18) (a := 18) rfl (by decide) (by decide)
      obtain ⟨p3, g3⟩ := nu (s := 4) V (a1 := Int64.ofInt 20) (a := 20) rfl (by decide) (by decide)
      obtain ⟨p4, g4⟩ := nu (s := 8) V (a1 := Int64.ofInt 32) (a := 32) rfl (by decide) (by decide)
      obtain ⟨p5, g5⟩ := nu (s := 2) V (a1 := Int64.ofInt 56) (a := 56) rfl (by decide) (by decide)
      obtain ⟨p6, g6⟩ := nu (s := 2) V (a1 := Int64.ofInt 52) (a := 52) rfl (by decide) (by decide)
      obtain ⟨p7, g7⟩ := nu (s := 2) V (a1 := Int64.ofInt 54) (a := 54) rfl (by decide) (by decide)
      have g1 : GX90_number l (Int64.ofInt 16) (Int32.ofInt 2) M = _ := g1
      have g2 : GX90_number l (Int64.ofInt 18) (Int32.ofInt 2) M = _ := g2
      have g3 : GX90_number l (Int64.ofInt 20) (Int32.ofInt 4) M = _ := g3
      have g4 : GX90_number l (Int64.ofInt 32) (Int32.ofInt 8) M = _ := g4
      have g5 : GX90_number l (Int64.ofInt 56) (Int32.ofInt 2) M = _ := g5
      have g6 : GX90_number l (Int64.ofInt 52) (Int32.ofInt 2) M = _ := g6
      have g7 : GX90_number l (Int64.ofInt 54) (Int32.ofInt 2) M = _ := g7
      have b1 := nm_2 hb 16
      have b2 := nm_2 hb 18
      have b3 := nm_4 hb 20
      have b4 := nm_8 hb 32
      have b5 := nm_2 hb 56
      have b6 := nm_2 hb 52
      have b7 := nm_2 hb 54
      have c1 : lg_cmp (lN (nmV X 16 2)) (Int64.ofInt 2) = 0 ↔ nmV X 16 2 = 2 := lgE (by omega) (by decide)
      have c2 : lg_cmp (lN (nmV X 18 2)) (Int64.ofInt 243) = 0 ↔ nmV X 18 2 = 243 := lgE (by omega) (by decide)
      have c3 : lg_cmp (lN (nmV X 20 4)) (Int64.ofInt 1) = 0 ↔ nmV X 20 4 = 1 := lgE (by omega) (by decide)
      have c6 : lg_cmp (lN (nmV X 52 2)) (Int64.ofInt 64) = 0 ↔ nmV X 52 2 = 64 := lgE (by omega) (by decide)
      have c7 : lg_cmp (lN (nmV X 54 2)) (Int64.ofInt 56) = 0 ↔ nmV X 54 2 = 56 := lgE (by omega) (by decide)
      have c8 : nI (nmV X 56 2) < Int32.ofInt 1 ↔ nmV X 56 2 < 1 := n_s (b := 1) b5 (by decide)
      have c9 : Int32.ofInt 16 < nI (nmV X 56 2) ↔ 16 < nmV X 56 2 := n_s (a := 16) (by decide) b5
      have e5 : (lN (nmV X 56 2)).toInt32 = nI (nmV X 56 2) := o_32 (by omega)
      have ft : ∀ m, m = nmV X 56 2 → m ≤ 16 → GX90_fits (lN (nmV X 32 8)) (Int64.ofInt 56 * (nI m).toInt64) ((nI n).toInt64) M = (bz (fitP (nmV X 32 8) (56 * nmV X 56 2) n), M) := fun m e h => by
        rw [e] at h ⊢
        rw [o_64 (by omega), show Int64.ofInt 56 * lN (nmV X 56 2) = lN (56 * nmV X 56 2) from ul_inj (by rw [ul_mul, ul_lN, ul_lN, show ul (Int64.ofInt 56) = 56 from rfl]; omega)]
        exact X90_fits hn b4 (by omega)
      have H : HX90_fault_0 l M := by
        unfold HX90_fault_0
        dsimp only
        rw [g0]
        dsimp only
        rw [g1]
        dsimp only
        rw [g2]
        dsimp only
        rw [g3]
        dsimp only
        rw [g4]
        dsimp only
        rw [g5]
        dsimp only
        rw [g6]
        exact ⟨fun _ => ⟨p0, fun _ => trivial, fun _ => ⟨p1, fun _ => ⟨p2, fun _ => ⟨p3, fun _ => ⟨p4, p5, p6, fun _ => ⟨p7, trivial⟩, fun _ => trivial⟩, fun _ => trivial⟩, fun _ => trivial⟩, fun _ => trivial⟩⟩, fun _ => trivial⟩
      rw [(gX90_fault_0 (FX90_fault_L155 fN fN) l M V.1 V.2.1 H).1]
      unfold GX90_fault_0 GX90_fault_150 GX90_fault_66
      dsimp only
      rw [sz, fi_pos (k64.mpr h0), g0]
      dsimp only
      rw [g1]
      dsimp only
      rw [g2]
      dsimp only
      rw [g3]
      dsimp only
      rw [g4]
      dsimp only
      rw [g5]
      dsimp only
      rw [g6]
      dsimp only
      rw [g7]
      dsimp only
      rw [sz, e5, fi_bz]
      unfold imF
      rw [fi_pos h0]
      by_cases h1 : nmV X 0 7 = 282584257676671
      · rw [fi_pos h1, fi_pos h1]
        by_cases h2 : nmV X 16 2 = 2
        · rw [fi_pos (c1.mpr h2)]
          by_cases h3 : nmV X 18 2 = 243
          · rw [fi_pos (c2.mpr h3)]
            by_cases h4 : nmV X 20 4 = 1
            · rw [fi_pos (c3.mpr h4), fi_pos (show nmV X 16 2 = 2 ∧ nmV X 18 2 = 243 ∧ nmV X 20 4 = 1 from ⟨h2, h3, h4⟩)]
              by_cases h5 : nmV X 52 2 = 64
              · rw [fi_pos (c6.mpr h5)]
                by_cases h6 : nmV X 54 2 = 56
                · rw [fi_pos (c7.mpr h6)]
                  by_cases h7 : nmV X 56 2 < 1
                  · rw [fi_pos (c8.mpr h7), fi_neg (fun z => by have := z.2.2.1.1; omega)]
                    rfl
                  · rw [fi_neg (fun z => h7 (c8.mp z))]
                    by_cases h8 : 16 < nmV X 56 2
                    · rw [fi_pos (c9.mpr h8), fi_neg (fun z => by have := z.2.2.1.2; omega)]
                      rfl
                    · rw [fi_neg (fun z => h8 (c9.mp z)), ft _ rfl (by omega)]
                      dsimp only
                      rw [fi_bz]
                      by_cases h9 : fitP (nmV X 32 8) (56 * nmV X 56 2) n
                      · rw [fi_pos h9, fi_pos (show nmV X 52 2 = 64 ∧ nmV X 54 2 = 56 ∧ (1 ≤ nmV X 56 2 ∧ nmV X 56 2 ≤ 16) ∧ fitP (nmV X 32 8) (56 * nmV X 56 2) n from ⟨h5, h6, ⟨by omega, by omega⟩, h9⟩)]
                        exact fa_L V (by omega) (by unfold fitP at h9; omega) (nmV X 56 2) fN 0 (by omega) (by unfold fN; omega)
                      · rw [fi_neg h9, fi_neg (fun z => h9 z.2.2.2)]
                        rfl
                · rw [fi_neg (fun z => h6 (c7.mp z)), fi_neg (fun z => h6 z.2.1)]
                  rfl
              · rw [fi_neg (fun z => h5 (c6.mp z)), fi_neg (fun z => h5 z.1)]
                rfl
            · rw [fi_neg (fun z => h4 (c3.mp z)), fi_neg (fun z => h4 z.2.2)]
              rfl
          · rw [fi_neg (fun z => h3 (c2.mp z)), fi_neg (fun z => h3 z.2.1)]
            rfl
        · rw [fi_neg (fun z => h2 (c1.mp z)), fi_neg (fun z => h2 z.1)]
          rfl
      · rw [fi_neg h1, fi_neg h1]
        rfl
    · have c0 : ¬ Int32.ofInt 64 ≤ M.1 262 (M.2.2 186 l 0) 0 := fun z => by
        rw [sz] at z
        exact h0 (k64.mp z)
      rw [(gX90_fault_0 (FX90_fault_L155 fN fN) l M V.1 V.2.1 ⟨fun z => absurd z c0, fun _ => trivial⟩).1]
      unfold GX90_fault_0 imF
      dsimp only
      rw [fi_neg c0, fi_neg h0]
      rfl
  exact op_of (d := ((0 : Int32), M)) Ax (P := OkR M) ⟨V.1, ext_r M⟩
end Lg
