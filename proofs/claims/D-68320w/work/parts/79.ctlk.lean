/-! control registers: which interrupt is taken, the twin and both -/
set_option maxRecDepth 100000
section Fi
variable {u d n x : Nat} {k : Int32} {Mc Mt M : FM}
theorem t_pend {L : Int64} (hl : GX100_lineBits d M = (L, M)) {c : Nat} (hc : c < 64) : GX100_isPending d (nI c) M = (bz (lb ((ht M d 836 ||| L) &&& ht M d 772) c = true), M) := by
  unfold GX100_isPending GX100_isPending_0 GX100_isPending_30
  rw [show GX100_shown d (Int32.ofInt 836) M = (ht M d 836 ||| L, M) from (t_shown M (nI 836)).trans (t836 hl)]
  dsimp only
  have b := and_b0 ((ht M d 836 ||| L) &&& (M.2.1 3 (M.2.2 361 d 0) (Int32.ofInt 772).toNatClampNeg)) (b := nI c) (k := c) (by rw [ui_nI]; omega) hc
  by_cases h : lb ((ht M d 836 ||| L) &&& (M.2.1 3 (M.2.2 361 d 0) (Int32.ofInt 772).toNatClampNeg)) c = true
  · rw [fi_neg (fun z => b.mp z h)]
    exact Prod.ext (bz_t h).symm rfl
  · rw [fi_pos (b.mpr h)]
    exact Prod.ext (bz_f h).symm rfl
abbrev opn0 (m : Int32) (x : Int64) : Prop := ¬ m = Int32.ofInt 3 ∨ lb x 3 = true
abbrev opn1 (m : Int32) (x : Int64) : Prop := m = 0 ∨ (m = Int32.ofInt 1 ∧ lb x 1 = true)
theorem t_may {L : Int64} (hm : mde (M.1 360 d 0)) (hl : GX100_lineBits d M = (L, M)) {c : Nat} (hc : c < 64) (q : Prop) :
    GX100_mayBe d (nI c) (bz q) M = (bz (lb ((ht M d 836 ||| L) &&& ht M d 772) c = true ∧ (lb (ht M d 771) c = true ↔ q) ∧ ((¬ q ∧ opn0 (M.1 360 d 0) (ht M d 768)) ∨ (q ∧ opn1 (M.1 360 d 0) (ht M d 768)))), M) := by
  have c81 : ∀ p s : Prop, GX100_mayBe_81 d (nI c) (bz q) (bz p) (bz s) M = (bz (lb ((ht M d 836 ||| L) &&& ht M d 772) c = true ∧ (p ↔ q) ∧ s), M) := fun p s => by
    unfold GX100_mayBe_81 GX100_mayBe_105 GX100_mayBe_106
    rw [t_pend hl hc]
    dsimp only
    rw [fi_bz, fi_bz, fi_and, fi_and, bz_eq]
    exact fi_pr.trans (Prod.ext (congrArg bz (propext and_assoc)) rfl)
  have c22 : ∀ p : Prop, GX100_mayBe_22 d (nI c) (bz q) (bz p) M = GX100_mayBe_81 d (nI c) (bz q) (bz p) (bz ((¬ q ∧ opn0 (M.1 360 d 0) (ht M d 768)) ∨ (q ∧ opn1 (M.1 360 d 0) (ht M d 768)))) M := fun p => by
    unfold GX100_mayBe_22 GX100_mayBe_76 GX100_mayBe_51 GX100_mayBe_55
    rw [X100_status (k := 3) rfl (by decide), X100_status (k := 1) rfl (by decide)]
    dsimp only
    rw [fi_bz, bz_i1, bz_i1]
    have hT : ∀ {s : Prop}, s → GX100_mayBe_81 d (nI c) (bz q) (bz p) (Int32.ofInt 1) M = GX100_mayBe_81 d (nI c) (bz q) (bz p) (bz s) M := fun h => by rw [bz_t h]
    have hF : ∀ {s : Prop}, ¬ s → GX100_mayBe_81 d (nI c) (bz q) (bz p) (Int32.ofInt 0) M = GX100_mayBe_81 d (nI c) (bz q) (bz p) (bz s) M := fun h => by rw [bz_f h]
    have lt3 : M.1 360 d 0 < Int32.ofInt 3 ↔ ¬ M.1 360 d 0 = Int32.ofInt 3 := by
      rcases hm with e | e | e <;> rw [e] <;> decide
    by_cases hq : q
    · rw [fi_pos hq]
      by_cases h0 : M.1 360 d 0 = 0
      · rw [fi_pos h0]
        exact hT (Or.inr ⟨hq, Or.inl h0⟩)
      · rw [fi_neg h0]
        by_cases h1 : M.1 360 d 0 = Int32.ofInt 1
        · rw [fi_pos h1]
          by_cases hb : lb (ht M d 768) 1 = true
          · rw [fi_pos hb]
            exact hT (Or.inr ⟨hq, Or.inr ⟨h1, hb⟩⟩)
          · rw [fi_neg hb]
            exact hF (fun z => z.elim (fun y => y.1 hq) (fun y => y.2.elim h0 (fun w => hb w.2)))
        · rw [fi_neg h1]
          exact hF (fun z => z.elim (fun y => y.1 hq) (fun y => y.2.elim h0 (fun w => h1 w.1)))
    · rw [fi_neg hq]
      by_cases h3 : M.1 360 d 0 = Int32.ofInt 3
      · rw [fi_neg (fun z => lt3.mp z h3)]
        by_cases hb : lb (ht M d 768) 3 = true
        · rw [fi_pos hb]
          exact hT (Or.inl ⟨hq, Or.inr hb⟩)
        · rw [fi_neg hb]
          exact hF (fun z => z.elim (fun y => y.2.elim (fun w => w h3) hb) (fun y => hq y.1))
      · rw [fi_pos (lt3.mpr h3)]
        exact hT (Or.inl ⟨hq, Or.inl h3⟩)
  unfold GX100_mayBe GX100_mayBe_0
  dsimp only
  have b := bit_c1 (M.2.1 3 (M.2.2 361 d 0) (Int32.ofInt 771).toNatClampNeg) (b := nI c) (k := c) (by rw [ui_nI]; omega) hc
  by_cases h : lb (M.2.1 3 (M.2.2 361 d 0) (Int32.ofInt 771).toNatClampNeg) c = true
  · rw [fi_pos (b.mpr h), bz1, c22, c81]
    exact Prod.ext (congrArg bz (propext (and_congr Iff.rfl (and_congr ⟨fun z => ⟨fun _ => z.mp trivial, fun _ => h⟩, fun z => ⟨fun _ => z.mp h, fun _ => trivial⟩⟩ Iff.rfl)))) rfl
  · rw [fi_neg (fun z => h (b.mp z)), bz0, c22, c81]
    exact Prod.ext (congrArg bz (propext (and_congr Iff.rfl (and_congr ⟨fun z => ⟨fun y => absurd y h, fun y => (z.mpr y).elim⟩, fun z => ⟨fun y => y.elim, fun y => h (z.mpr y)⟩⟩ Iff.rfl)))) rfl
theorem t_mayH (T : Ty M) (nd : fm_is M 95 95 d = true) (a b : Int32) : HX100_mayBe d a b M := by
  have hp : HX100_isPending d a M := ⟨t_shownH (n := 836) (by decide) T nd, trivial⟩
  have h81 : ∀ s p, HX100_mayBe_81 d a b p s M := fun s p => ⟨hp, trivial⟩
  have h22 : ∀ p, HX100_mayBe_22 d a b p M := fun p => by
    unfold HX100_mayBe_22
    rw [X100_status (k := 3) rfl (by decide), X100_status (k := 1) rfl (by decide)]
    exact ⟨fun _ => ⟨fun _ => h81 _ _, fun _ => ⟨fun _ => h81 _ _, fun _ => h81 _ _⟩⟩, fun _ => ⟨fun _ => h81 _ _, fun _ => ⟨fun _ => ⟨fun _ => h81 _ _, fun _ => h81 _ _⟩, fun _ => h81 _ _⟩⟩⟩
  exact ⟨fun _ => h22 _, fun _ => h22 _⟩
theorem t_fst (T : Ty M) (nd : fm_is M 95 95 d = true) {q : Int32} {P : Nat → Prop} (hP : ∀ c, c < 64 → GX100_mayBe d (nI c) q M = (bz (P c), M)) {j i c : Nat} (hi : (i = 0 ∧ c = 11) ∨ (i = 1 ∧ c = 3) ∨ (i = 2 ∧ c = 7) ∨ (i = 3 ∧ c = 9) ∨ (i = 4 ∧ c = 1) ∨ (i = 5 ∧ c = 5)) :
    FX100_first_L2 fN (j + 1) d q (nI i) M = fi (P c) (some (nI c, M)) (FX100_first_L2 fN j d q (nI (i + 1)) M) := by
  have h56 : ∀ i a, HX100_first_56 d q i a M := fun i a => ⟨t_mayH T nd _ _, trivial⟩
  have hH : HX100_first_2 d q (nI i) M := ⟨fun _ => trivial, fun _ => ⟨fun _ => h56 _ _, fun _ => ⟨fun _ => h56 _ _, fun _ => ⟨fun _ => h56 _ _, fun _ => ⟨fun _ => h56 _ _, fun _ => ⟨fun _ => h56 _ _, fun _ => h56 _ _⟩⟩⟩⟩⟩⟩
  have up : nI i + Int32.ofInt 1 = nI (i + 1) := by
    apply ui_inj
    rw [ui_add, ui_nI, ui_nI, show ui (Int32.ofInt 1) = 1 from rfl]
    omega
  have e56 : GX100_first_2 d q (nI i) M = GX100_first_56 d q (nI i) (nI c) M := by
    unfold GX100_first_2
    rcases hi with ⟨rfl, rfl⟩ | ⟨rfl, rfl⟩ | ⟨rfl, rfl⟩ | ⟨rfl, rfl⟩ | ⟨rfl, rfl⟩ | ⟨rfl, rfl⟩
    · rw [fi_neg (by decide), fi_pos (by decide)]
      rfl
    · rw [fi_neg (by decide), fi_neg (by decide), fi_pos (by decide)]
      rfl
    · rw [fi_neg (by decide), fi_neg (by decide), fi_neg (by decide), fi_pos (by decide)]
      rfl
    · rw [fi_neg (by decide), fi_neg (by decide), fi_neg (by decide), fi_neg (by decide), fi_pos (by decide)]
      rfl
    · rw [fi_neg (by decide), fi_neg (by decide), fi_neg (by decide), fi_neg (by decide), fi_neg (by decide), fi_pos (by decide)]
      rfl
    · rw [fi_neg (by decide), fi_neg (by decide), fi_neg (by decide), fi_neg (by decide), fi_neg (by decide), fi_neg (by decide)]
      rfl
  show FX100_first_2 fN (FX100_first_L2 fN j) _ _ _ _ = _
  rw [(gX100_first_2 _ _ _ _ M T nd hH).1, e56]
  unfold GX100_first_56
  rw [hP c (by omega)]
  dsimp only
  rw [fi_bz, up]
  by_cases h : P c
  · rw [fi_pos h, fi_pos h]
    rfl
  · rw [fi_neg h, fi_neg h]
    rfl
theorem t_first (T : Ty M) (nd : fm_is M 95 95 d = true) {q : Int32} {P : Nat → Prop} (hP : ∀ c, c < 64 → GX100_mayBe d (nI c) q M = (bz (P c), M)) : HX100_first d q M ∧ GX100_first d q M = (fsP P, M) := by
  have k1 : FX100_first fN d q M = some (fsP P, M) := by
    show FX100_first_0 fN (FX100_first_L2 fN fN) d q M = _
    rw [(gX100_first_0 _ _ _ M T).1]
    show FX100_first_L2 fN fN d q (nI 0) M = _
    obtain ⟨m, hm⟩ : ∃ m, fN = m + 1 + 1 + 1 + 1 + 1 + 1 + 1 := ⟨99999993, rfl⟩
    rw [show FX100_first_L2 fN fN = FX100_first_L2 fN (m + 1 + 1 + 1 + 1 + 1 + 1 + 1) from congrArg _ hm]
    rw [t_fst T nd hP (i := 0) (c := 11) (by decide), t_fst T nd hP (i := 0 + 1) (c := 3) (by decide), t_fst T nd hP (i := 0 + 1 + 1) (c := 7) (by decide), t_fst T nd hP (i := 0 + 1 + 1 + 1) (c := 9) (by decide), t_fst T nd hP (i := 0 + 1 + 1 + 1 + 1) (c := 1) (by decide), t_fst T nd hP (i := 0 + 1 + 1 + 1 + 1 + 1) (c := 5) (by decide)]
    have e6 : FX100_first_L2 fN (m + 1) d q (nI (0 + 1 + 1 + 1 + 1 + 1 + 1)) M = some (Int32.ofInt (-1), M) := by
      show FX100_first_2 fN (FX100_first_L2 fN m) _ _ _ _ = _
      have h6 : Int32.ofInt 6 ≤ nI (0 + 1 + 1 + 1 + 1 + 1 + 1) := by decide
      rw [(gX100_first_2 _ _ _ _ M T nd ⟨fun _ => trivial, fun q => absurd h6 q⟩).1]
      unfold GX100_first_2
      rw [fi_pos h6]
      rfl
    rw [e6]
    simp only [fi_some, fi_fst]
    rfl
  exact op_of (P := OkR M) (d := (0, M)) k1 ⟨T, ext_r _⟩
end Fi
