/-! floats: the twin's roundTo -/
set_option maxRecDepth 100000
theorem l_half (x : Int64) : ul (x / Int64.ofInt 2) = if ul x < 9223372036854775808 then ul x / 2 else (18446744073709551616 - (18446744073709551616 - ul x) / 2) % 18446744073709551616 := by
  have hx := ul_lt x
  have m2 : (Int64.ofInt 2).toBitVec.msb = false := by decide
  unfold ul at *
  rw [Int64.toBitVec_div, BitVec.sdiv_eq, m2, msb_l]
  by_cases h : x.toBitVec.toNat < 9223372036854775808
  · rw [if_pos h, decide_eq_false (show ¬ 9223372036854775808 ≤ ul x by unfold ul; omega)]
    show (BitVec.udiv x.toBitVec (Int64.ofInt 2).toBitVec).toNat = _
    rw [BitVec.udiv_eq, BitVec.toNat_udiv]
    rfl
  · rw [if_neg h, decide_eq_true (show 9223372036854775808 ≤ ul x by unfold ul; omega)]
    show (-(BitVec.udiv (-x.toBitVec) (Int64.ofInt 2).toBitVec)).toNat = _
    rw [BitVec.udiv_eq, BitVec.toNat_neg, BitVec.toNat_udiv, BitVec.toNat_neg]
    show (2 ^ 64 - (2 ^ 64 - x.toBitVec.toNat) % 2 ^ 64 / 2) % 2 ^ 64 = _
    omega
theorem l_par (x : Int64) : lg_cmp (x - x / Int64.ofInt 2 * Int64.ofInt 2) (Int64.ofInt 0) = 0 ↔ ul x % 2 = 0 := by
  have hx := ul_lt x
  rw [cl_eq, ul_sub, ul_mul, l_half, show ul (Int64.ofInt 2) = 2 from rfl, show ul (Int64.ofInt 0) = 0 from rfl]
  split <;> omega
section Gw
variable {sg o : Bool} {c : Nat}
theorem grw_0 : grw 0 sg o c = true ↔ c = 3 ∨ (c = 2 ∧ o = true) := by unfold grw; simp
theorem grw_1 : grw 1 sg o c = true ↔ False := by unfold grw; simp
theorem grw_2 : grw 2 sg o c = true ↔ sg = true ∧ 0 < c := by unfold grw; simp
theorem grw_3 : grw 3 sg o c = true ↔ ¬ sg = true ∧ 0 < c := by unfold grw; simp
theorem grw_4 : grw 4 sg o c = true ↔ 1 < c := by unfold grw; simp
end Gw
/-- half of it, and a rest -/
theorem cuC_h {A : Nat} {mo : Bool} {d : Int} : ((0 ≤ d - 1 ∧ A.testBit (d - 1).toNat = true) ↔ 2 ≤ cuC A mo d) ∧ ((mo = true ∨ A % 2 ^ (d - 1).toNat ≠ 0) ↔ cuC A mo d % 2 = 1) ∧ cuC A mo d ≤ 3 := by
  unfold cuC
  by_cases h : d ≤ 0
  · rw [if_pos h, show (d - 1).toNat = 0 by omega, Nat.pow_zero, Nat.mod_one]
    cases mo with
    | false => refine ⟨⟨fun q => by omega, fun q => by simp at q⟩, ⟨fun q => by simp at q, fun q => by simp at q⟩, by simp⟩
    | true => refine ⟨⟨fun q => by omega, fun q => by simp at q⟩, ⟨fun q => by simp, fun q => by simp⟩, by simp⟩
  · rw [if_neg h, show d.toNat - 1 = (d - 1).toNat by omega]
    have h1 : 0 ≤ d - 1 := by omega
    by_cases b : A.testBit (d - 1).toNat = true
    · rw [if_pos b]
      by_cases s : A % 2 ^ (d - 1).toNat ≠ 0 ∨ mo = true
      · rw [if_pos s]
        exact ⟨⟨fun _ => by omega, fun _ => ⟨h1, b⟩⟩, ⟨fun _ => rfl, fun _ => s.symm⟩, by omega⟩
      · rw [if_neg s]
        exact ⟨⟨fun _ => by omega, fun _ => ⟨h1, b⟩⟩, ⟨fun q => absurd q.symm s, fun q => by omega⟩, by omega⟩
    · rw [if_neg b]
      by_cases s : A % 2 ^ (d - 1).toNat ≠ 0 ∨ mo = true
      · rw [if_pos s]
        exact ⟨⟨fun q => absurd q.2 b, fun q => by omega⟩, ⟨fun _ => rfl, fun _ => s.symm⟩, by omega⟩
      · rw [if_neg s]
        exact ⟨⟨fun q => absurd q.2 b, fun q => by omega⟩, ⟨fun q => absurd q.symm s, fun q => by omega⟩, by omega⟩
theorem uS_o {M : FM} {f g b i : Nat} {U : Int64} {l : Int32} (h : ¬ (g = 385 ∧ b = f)) : (uS f U l M).1 g b i = M.1 g b i := oI (fun q => h ⟨q.1, q.2.1⟩)
section Rp
variable {M : FM} {f A md : Nat} {sg mo : Bool} {sc u : Int}
theorem sI_L (M : FM) (g a i : Nat) (v : Int32) (g' a' i' : Nat) (w : Int64) : fm_sI (fm_sL M g' a' i' w) g a i v = fm_sL (fm_sI M g a i v) g' a' i' w := rfl
theorem X99_ro250 (hE : Nat) (l : Int32) (p : Prop) : GX99_roundTo_250 f (bz p) (fm_sI (fm_sL M 384 f 0 (lN hE)) 385 f 0 l) = .inr (.inr (uS f (lN (hE + fi p 1 0)) l M)) := by
  unfold GX99_roundTo_250 GX99_roundTo_271
  dsimp only
  rw [fi_bz, sI_L, sL_at, sL_same, sL_same]
  by_cases h : p
  · rw [fi_pos h, fi_pos h, show Int64.ofInt 1 = lN 1 from rfl]
    have e : lN hE + lN 1 = lN (hE + 1) := by
      apply ul_inj
      rw [ul_add, ul_lN, ul_lN, ul_lN]
      omega
    rw [e]
    rfl
  · rw [fi_neg h, fi_neg h]
    rfl
theorem X99_ro126 (hm : md ≤ 4) (hs : M.1 382 f 0 = bz (sg = true)) (E c : Nat) {h s : Prop} (h1 : h ↔ 2 ≤ c) (h2 : s ↔ c % 2 = 1) (h3 : c ≤ 3) :
    GX99_roundTo_126 f (nI md) (bz h) (bz s) (fm_sL M 384 f 0 (lN E)) = .inr (.inr (uS f (lN (E + if grw md sg (decide (E % 2 = 1)) c = true then 1 else 0)) (bz (c ≠ 0)) M)) := by
  have hl : (h ∨ s) ↔ c ≠ 0 := by rw [h1, h2]; omega
  have e142 : GX99_roundTo_126 f (nI md) (bz h) (bz s) (fm_sL M 384 f 0 (lN E)) = GX99_roundTo_142 f (nI md) (bz h) (bz s) f (bz (c ≠ 0)) (fm_sL M 384 f 0 (lN E)) := by
    unfold GX99_roundTo_126 GX99_roundTo_137
    rw [fi_bz, fi_bz, ← propext hl]
    by_cases a : h
    · rw [fi_pos a, bz_t (Or.inl a)]
    · rw [fi_neg a]
      by_cases b : s
      · rw [fi_pos b, bz_t (Or.inr b)]
      · rw [fi_neg b, bz_f (c := h ∨ s) (fun z => z.elim a b)]
  have finF : ∀ p : Prop, (p ↔ grw md sg (decide (E % 2 = 1)) c = true) → (.inr (.inr (uS f (lN (E + fi p 1 0)) (bz (c ≠ 0)) M)) : (Nat × Int32 × Int32 × Int32 × FM) ⊕ (Nat × Int32 × Int32 × Int32 × Int32 × Int32 × FM) ⊕ (FM)) = .inr (.inr (uS f (lN (E + if grw md sg (decide (E % 2 = 1)) c = true then 1 else 0)) (bz (c ≠ 0)) M)) := fun p hp => by
    rw [propext hp, fi_if]
  have m385 : (fm_sI (fm_sL M 384 f 0 (lN E)) 385 f 0 (bz (c ≠ 0))).1 385 f 0 = bz (c ≠ 0) := if_pos ⟨rfl, rfl, rfl⟩
  have m382 : (fm_sI (fm_sL M 384 f 0 (lN E)) 385 f 0 (bz (c ≠ 0))).1 382 f 0 = bz (sg = true) := by
    rw [← hs]
    exact oI (M := fm_sL M 384 f 0 (lN E)) (fun q => by omega)
  have m384 : (fm_sI (fm_sL M 384 f 0 (lN E)) 385 f 0 (bz (c ≠ 0))).2.1 384 f 0 = lN E := sL_at M 384 f 0 (lN E)
  have r0 := X99_ro250 (M := M) (f := f) E (bz (c ≠ 0)) False
  have r1 := X99_ro250 (M := M) (f := f) E (bz (c ≠ 0)) True
  rw [← bz0] at r0
  rw [← bz1] at r1
  have ev : lg_cmp (lN E - lN E / Int64.ofInt 2 * Int64.ofInt 2) (Int64.ofInt 0) = 0 ↔ ¬ E % 2 = 1 := by
    rw [l_par, ul_lN]
    omega
  rw [e142]
  unfold GX99_roundTo_142 GX99_roundTo_249 GX99_roundTo_231 GX99_roundTo_204 GX99_roundTo_176 GX99_roundTo_172
  dsimp only
  rw [m385, m382, m384, r0, r1]
  simp only [fi_bz]
  rw [fi_c ev, propext bzo]
  rcases (show md = 0 ∨ md = 1 ∨ md = 2 ∨ md = 3 ∨ md = 4 by omega) with e | e | e | e | e <;> subst e
  · rw [fi_pos (show nI 0 = 0 from rfl)]
    by_cases a : h
    · rw [fi_pos a]
      have a2 := h1.mp a
      by_cases b : s
      · rw [fi_pos b]
        have b2 := h2.mp b
        exact finF True ⟨fun _ => grw_0.mpr (Or.inl (by omega)), fun _ => trivial⟩
      · rw [fi_neg b]
        have b2 : ¬ c % 2 = 1 := fun q => b (h2.mpr q)
        by_cases o : E % 2 = 1
        · rw [fi_neg (fun z => z o)]
          exact finF True ⟨fun _ => grw_0.mpr (Or.inr ⟨by omega, decide_eq_true o⟩), fun _ => trivial⟩
        · rw [fi_pos o]
          exact finF False ⟨fun z => z.elim, fun z => by
            rcases grw_0.mp z with z | z
            · omega
            · exact absurd (of_decide_eq_true z.2) o⟩
    · rw [fi_neg a]
      have a2 : ¬ 2 ≤ c := fun q => a (h1.mpr q)
      exact finF False ⟨fun z => z.elim, fun z => by
        rcases grw_0.mp z with z | z <;> omega⟩
  · rw [fi_neg (show ¬ nI 1 = 0 by decide), fi_neg (show ¬ nI 1 = Int32.ofInt 2 by decide), fi_neg (show ¬ nI 1 = Int32.ofInt 3 by decide), fi_neg (show ¬ nI 1 = Int32.ofInt 4 by decide)]
    exact finF False ⟨fun z => z.elim, fun z => grw_1.mp z⟩
  · rw [fi_neg (show ¬ nI 2 = 0 by decide), fi_pos (show nI 2 = Int32.ofInt 2 from rfl)]
    by_cases a : c ≠ 0
    · rw [fi_pos a]
      by_cases b : sg = true
      · rw [fi_pos b]
        exact finF True ⟨fun _ => grw_2.mpr ⟨b, by omega⟩, fun _ => trivial⟩
      · rw [fi_neg b]
        exact finF False ⟨fun z => z.elim, fun z => b (grw_2.mp z).1⟩
    · rw [fi_neg a]
      exact finF False ⟨fun z => z.elim, fun z => by have := (grw_2.mp z).2; omega⟩
  · rw [fi_neg (show ¬ nI 3 = 0 by decide), fi_neg (show ¬ nI 3 = Int32.ofInt 2 by decide), fi_pos (show nI 3 = Int32.ofInt 3 from rfl)]
    by_cases a : c ≠ 0
    · rw [fi_pos a]
      by_cases b : sg = true
      · rw [fi_pos b]
        exact finF False ⟨fun z => z.elim, fun z => (grw_3.mp z).1 b⟩
      · rw [fi_neg b]
        exact finF True ⟨fun _ => grw_3.mpr ⟨b, by omega⟩, fun _ => trivial⟩
    · rw [fi_neg a]
      exact finF False ⟨fun z => z.elim, fun z => by have := (grw_3.mp z).2; omega⟩
  · rw [fi_neg (show ¬ nI 4 = 0 by decide), fi_neg (show ¬ nI 4 = Int32.ofInt 2 by decide), fi_neg (show ¬ nI 4 = Int32.ofInt 3 by decide), fi_pos (show nI 4 = Int32.ofInt 4 from rfl)]
    by_cases a : h
    · rw [fi_pos a]
      exact finF True ⟨fun _ => grw_4.mpr (by have := h1.mp a; omega), fun _ => trivial⟩
    · rw [fi_neg a]
      exact finF False ⟨fun z => z.elim, fun z => a (h1.mpr (by have := grw_4.mp z; omega))⟩
theorem mod_up (A k : Nat) : A % 2 ^ (k + 1) ≠ 0 ↔ (A % 2 ^ k ≠ 0 ∨ A.testBit k = true) := by
  have p := Nat.two_pow_pos k
  rw [Nat.mod_pow_succ, Nat.testBit_eq_decide_div_mod_eq]
  have m := Nat.mod_two_eq_zero_or_one (A / 2 ^ k)
  rcases m with m | m
  · rw [m, Nat.mul_zero, Nat.add_zero]
    simp
  · rw [m, Nat.mul_one]
    simp
theorem X99_ro2 (T : Ty M) (n : fm_is M 96 96 f = true) (hB : BH M (M.2.2 379 f 0) A) {d : Int} (hd : -100000 ≤ d ∧ d ≤ 100000) (hm : md ≤ 4) (hs : M.1 382 f 0 = bz (sg = true)) : ∀ (r k J : Nat),
    ((k : Int) + r = if d - 1 ≤ 3520 then (d - 1).toNat else 3520) → r < J →
    (FX99_roundTo_L fN J).2 f (nI md) (Int32.ofInt d) (bz (0 ≤ d - 1 ∧ A.testBit (d - 1).toNat = true)) (bz (mo = true ∨ A % 2 ^ k ≠ 0)) (nI k) (fm_sL M 384 f 0 (lN (cuU A d))) = some (uS f (lN (rnU md sg A mo d)) (bz (cuC A mo d ≠ 0)) M) := by
  have T' : Ty (fm_sL M 384 f 0 (lN (cuU A d))) := ty_eq rfl rfl T
  have hl : (fm_sL M 384 f 0 (lN (cuU A d))).2.2 1 (M.2.2 379 f 0) 0 = 220 := tL_379 T.1 n
  have hB' : BH (fm_sL M 384 f 0 (lN (cuU A d))) (M.2.2 379 f 0) A := hB
  have e1 : Int32.ofInt d - Int32.ofInt 1 = Int32.ofInt (d - 1) := iz_s
  intro r
  induction r with
  | zero =>
    intro k J hk hJ
    obtain ⟨J, rfl⟩ : ∃ x, J = x + 1 := ⟨J - 1, by omega⟩
    have stop : (Int32.ofInt (d - 1) ≤ nI k) ∨ (Int32.ofInt 3520 ≤ nI k) := by
      split at hk
      · exact Or.inl ((ni_ge (by omega)).mpr (by omega))
      · exact Or.inr ((ni_ge (by omega)).mpr (by omega))
    have er : (mo = true ∨ A % 2 ^ k ≠ 0) ↔ (mo = true ∨ A % 2 ^ (d - 1).toNat ≠ 0) := by
      split at hk
      · rw [show k = (d - 1).toNat by omega]
      · have h1 : A < 2 ^ k := by
          rw [show k = bD by rw [bD_e]; omega]
          exact hB.1
        have h2 : A < 2 ^ (d - 1).toNat := Nat.lt_of_lt_of_le h1 (Nat.pow_le_pow_right (by decide) (by omega))
        rw [Nat.mod_eq_of_lt h1, Nat.mod_eq_of_lt h2]
    obtain ⟨c1, c2, c3⟩ := cuC_h (A := A) (mo := mo) (d := d)
    have finF := X99_ro126 (md := md) hm hs (cuU A d) (cuC A mo d) c1 (er.trans c2) c3
    have G0 := (gX99_roundTo_80 (FX99_roundTo_L fN J).1 (FX99_roundTo_L fN J).2 f (nI md) (Int32.ofInt d) (bz (0 ≤ d - 1 ∧ A.testBit (d - 1).toNat = true)) (bz (mo = true ∨ A % 2 ^ k ≠ 0)) (nI k) (fm_sL M 384 f 0 (lN (cuU A d))) T' n ⟨fun _ => trivial, fun q => by
      rw [e1] at q
      exact ⟨fun _ => trivial, fun q2 => absurd stop (fun z => z.elim q q2)⟩⟩).1
    unfold GX99_roundTo_80 at G0
    rw [e1, finF] at G0
    show FX99_roundTo_80 fN _ _ f (nI md) (Int32.ofInt d) _ _ (nI k) _ = _
    rw [G0]
    by_cases q : Int32.ofInt (d - 1) ≤ nI k
    · rw [fi_pos q]
      rfl
    · rw [fi_neg q, fi_pos (stop.resolve_left q)]
      rfl
  | succ r ih =>
    intro k J hk hJ
    obtain ⟨J, rfl⟩ : ∃ x, J = x + 1 := ⟨J - 1, by omega⟩
    have k1 : ¬ Int32.ofInt (d - 1) ≤ nI k := fun q => by have := (ni_ge (by split at hk <;> omega)).mp q; split at hk <;> omega
    have k2 : ¬ Int32.ofInt 3520 ≤ nI k := fun q => by have := (ni_ge (by split at hk <;> omega)).mp q; split at hk <;> omega
    have hk3 : k < 3520 := by split at hk <;> omega
    obtain ⟨b1, b2⟩ := X99_bit hB' hl (z := (k : Int)) (by omega)
    rw [← iz_nI] at b1 b2
    have G0 := (gX99_roundTo_80 (FX99_roundTo_L fN J).1 (FX99_roundTo_L fN J).2 f (nI md) (Int32.ofInt d) (bz (0 ≤ d - 1 ∧ A.testBit (d - 1).toNat = true)) (bz (mo = true ∨ A % 2 ^ k ≠ 0)) (nI k) (fm_sL M 384 f 0 (lN (cuU A d))) T' n ⟨fun _ => trivial, fun _ => ⟨fun _ => trivial, fun _ => ⟨fun _ => ⟨b1, trivial⟩, fun _ => trivial⟩⟩⟩).1
    unfold GX99_roundTo_80 GX99_roundTo_113 GX99_roundTo_118 at G0
    dsimp only at G0
    rw [e1, fi_neg k1, fi_neg k2, up_1 (by omega), show (fm_sL M 384 f 0 (lN (cuU A d))).2.2 379 f 0 = M.2.2 379 f 0 from rfl, b2] at G0
    dsimp only at G0
    rw [fi_bz, fi_bz] at G0
    have nx : (mo = true ∨ A % 2 ^ (k + 1) ≠ 0) ↔ ((mo = true ∨ A % 2 ^ k ≠ 0) ∨ A.testBit k = true) := by rw [mod_up, or_assoc]
    have I := ih (k + 1) J (by split at hk <;> split <;> omega) (by omega)
    show FX99_roundTo_80 fN _ _ f (nI md) (Int32.ofInt d) _ _ (nI k) _ = _
    rw [G0]
    by_cases q : mo = true ∨ A % 2 ^ k ≠ 0
    · rw [fi_pos q]
      rw [bz_t (nx.mpr (Or.inl q))] at I
      exact I
    · rw [fi_neg q]
      by_cases t : A.testBit k = true
      · rw [fi_pos (show (0 : Int) ≤ (k : Int) ∧ A.testBit (k : Int).toNat = true from ⟨by omega, t⟩)]
        rw [bz_t (nx.mpr (Or.inr t))] at I
        exact I
      · rw [fi_neg (show ¬ ((0 : Int) ≤ (k : Int) ∧ A.testBit (k : Int).toNat = true) from fun z => t z.2)]
        rw [bz_f (fun z => (nx.mp z).elim q t)] at I
        exact I
theorem uS_ty {U : Int64} {c : Prop} (T : Ty M) : Ty (uS f U (bz c) M) := by
  refine ty_eq (M := fm_sI M 385 f 0 (bz c)) rfl rfl ⟨T.1, tyb_sIb (by rfl) T.2 (bz_z c)⟩
theorem X99_roundTo (T : Ty M) (n : fm_is M 96 96 f = true) (hB : BH M (M.2.2 379 f 0) A) (hm : md ≤ 4) (hs : M.1 382 f 0 = bz (sg = true)) (hc : M.1 383 f 0 = Int32.ofInt sc) (ho : M.1 381 f 0 = bz (mo = true)) (hu : -40000 ≤ u ∧ u ≤ 40000 ∧ -40000 ≤ sc ∧ sc ≤ 40000) :
    HX99_roundTo f (Int32.ofInt u) (nI md) M ∧ GX99_roundTo f (Int32.ofInt u) (nI md) M = uS f (lN (rnU md sg A mo (u - sc))) (bz (cuC A mo (u - sc) ≠ 0)) M := by
  have b : -100000 ≤ u - sc ∧ u - sc ≤ 100000 := by omega
  have G0 := (gX99_roundTo_0 (FX99_roundTo_L fN fN).1 (FX99_roundTo_L fN fN).2 f (Int32.ofInt u) (nI md) M T n).1
  unfold GX99_roundTo_0 at G0
  dsimp only at G0
  rw [hc, iz_s] at G0
  have L1 := X99_ro1 (md := md) T n hB b 64 (fN - 65) (Nat.le_refl _)
  rw [show fN - 65 + 64 + 1 = fN by decide, show ((64 : Nat) : Int) - 1 = 63 by decide] at L1
  have w0 : lN (cuU A (u - sc) / 2 ^ 64 % 2 ^ (64 - 64)) = Int64.ofInt 0 := by
    rw [Nat.sub_self, Nat.pow_zero, Nat.mod_one]
    rfl
  rw [w0, ho] at L1
  have L2 := X99_ro2 (mo := mo) T n hB b hm hs (if u - sc - 1 ≤ 3520 then (u - sc - 1).toNat else 3520) 0 (fN - 65) (by split <;> omega) (by
    have : fN - 65 = 99999935 := by decide
    split <;> omega)
  have e0 : (mo = true ∨ A % 2 ^ 0 ≠ 0) ↔ mo = true := by
    rw [Nat.pow_zero, Nat.mod_one]
    exact ⟨fun q => q.elim id (fun z => absurd rfl z), Or.inl⟩
  rw [bz_c e0] at L2
  refine op_of (o := FX99_roundTo fN f (Int32.ofInt u) (nI md) M) ((G0.trans L1).trans L2) ⟨uS_ty T, fun _ _ => ⟨rfl, rfl⟩⟩
end Rp
