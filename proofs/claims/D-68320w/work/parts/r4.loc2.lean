/-! finding data: all places, and whether they are there -/
set_option maxRecDepth 100000
theorem al_c (x : Int64) {z : Nat} (hz : z = 1 ∨ z = 2 ∨ z = 4 ∨ z = 8) : lg_cmp (x - x / lN z * lN z) (Int64.ofInt 0) = 0 ↔ ul x % z = 0 := by
  rcases hz with rfl | rfl | rfl | rfl
  · have d2 := Int64.toInt_div_of_ne_right x (lN 1) (by decide)
    rw [show (lN 1).toInt = 1 by decide, Int.tdiv_eq_ediv] at d2
    generalize x / lN 1 = w at *
    rw [tl, tl] at d2
    have l1 := ul_lt x
    have l2 := ul_lt w
    rw [cl_eq, ul_sub, ul_mul, show ul (lN 1) = 1 from rfl, show ul (Int64.ofInt 0) = 0 from rfl]
    rw [show Int.sign 1 = 1 by decide] at d2
    split at d2 <;> split at d2 <;> split at d2 <;> omega
  · have d2 := Int64.toInt_div_of_ne_right x (lN 2) (by decide)
    rw [show (lN 2).toInt = 2 by decide, Int.tdiv_eq_ediv] at d2
    generalize x / lN 2 = w at *
    rw [tl, tl] at d2
    have l1 := ul_lt x
    have l2 := ul_lt w
    rw [cl_eq, ul_sub, ul_mul, show ul (lN 2) = 2 from rfl, show ul (Int64.ofInt 0) = 0 from rfl]
    rw [show Int.sign 2 = 1 by decide] at d2
    split at d2 <;> split at d2 <;> split at d2 <;> omega
  · have d2 := Int64.toInt_div_of_ne_right x (lN 4) (by decide)
    rw [show (lN 4).toInt = 4 by decide, Int.tdiv_eq_ediv] at d2
    generalize x / lN 4 = w at *
    rw [tl, tl] at d2
    have l1 := ul_lt x
    have l2 := ul_lt w
    rw [cl_eq, ul_sub, ul_mul, show ul (lN 4) = 4 from rfl, show ul (Int64.ofInt 0) = 0 from rfl]
    rw [show Int.sign 4 = 1 by decide] at d2
    split at d2 <;> split at d2 <;> split at d2 <;> omega
  · have d2 := Int64.toInt_div_of_ne_right x (lN 8) (by decide)
    rw [show (lN 8).toInt = 8 by decide, Int.tdiv_eq_ediv] at d2
    generalize x / lN 8 = w at *
    rw [tl, tl] at d2
    have l1 := ul_lt x
    have l2 := ul_lt w
    rw [cl_eq, ul_sub, ul_mul, show ul (lN 8) = 8 from rfl, show ul (Int64.ofInt 0) = 0 from rfl]
    rw [show Int.sign 8 = 1 by decide] at d2
    split at d2 <;> split at d2 <;> split at d2 <;> omega
theorem al_t (x : Int64) {z : Nat} (hz : z = 1 ∨ z = 2 ∨ z = 4 ∨ z = 8) : lg_cmp (x &&& (lN z - Int64.ofInt 1)) (Int64.ofInt 0) = 0 ↔ ul x % z = 0 := by
  rw [cl_eq, ul_and, show ul (Int64.ofInt 0) = 0 from rfl]
  rcases hz with rfl | rfl | rfl | rfl
  · rw [show ul (lN 1 - Int64.ofInt 1) = 2 ^ 0 - 1 from rfl, Nat.and_two_pow_sub_one_eq_mod]
  · rw [show ul (lN 2 - Int64.ofInt 1) = 2 ^ 1 - 1 from rfl, Nat.and_two_pow_sub_one_eq_mod]
  · rw [show ul (lN 4 - Int64.ofInt 1) = 2 ^ 2 - 1 from rfl, Nat.and_two_pow_sub_one_eq_mod]
  · rw [show ul (lN 8 - Int64.ofInt 1) = 2 ^ 3 - 1 from rfl, Nat.and_two_pow_sub_one_eq_mod]
/-- the places agree -/
def Nt_e (fd m : Nat) (Mc Mt : FM) (i : Nat) : Prop := Mt.2.1 3 (Mt.2.2 323 m 0) i = Mc.2.1 3 (Mc.2.2 121 fd 0) i
section Lp
variable {p h bd a fu rg u t hv kp fd m c1 f1 d1 w1 hq s dd x dk q rq r g sg bl cr np : Nat} {cf : Nat → Nat} {kn : Int32} {o : Option Wt} {fs : Fs} {B Vv : Nat} {K : Rg} {F T : Nat → Nat} {rt : Int32} {tb : Int64} {many ea : Nat} {ad : Int64} {ac md sz flt : Int32}
/-- all places -/
theorem loc_L (hV : Vv < 2147483648) (hac : acc3 ac) (hm : md = 0 ∨ md = Int32.ofInt 1 ∨ md = Int32.ofInt 3) (hm8 : many ≤ 8) (hea : ea = 1 ∨ ea = 2 ∨ ea = 4 ∨ ea = 8) (hw : ∀ k, k < many → ul (ad + (nI k).toInt64) % 4096 + ea ≤ 4096) :
    ∀ n k Bk (Mc Mt : FM), k + n = many → RelP p h bd a fu cf rg u t hv kp fd m c1 f1 d1 w1 hq s dd x dk q rq r g sg bl cr np kn o fs B Bk Vv K F T rt tb Mc Mt → Told d1 rt tb Mt → Bk + n < 9223372036854775808 → ((Mt.1 322 m 0 = 0 ∧ ea = 1) ∨ (¬ Mt.1 322 m 0 = 0 ∧ sz = nI ea)) →
      (∀ i, i < k → Nt_e fd m Mc Mt i ∧ PlG F T K ac md ea (ad + (nI i).toInt64) (Mc.2.1 3 (Mc.2.2 121 fd 0) i)) → ∀ j j', n < j → n < j' → ∃ Nc Nt, Evo r n Mc Nc ∧ WK lX46_locate Mc Nc ∧ WK lX92_finds Mt Nt ∧
        ((∃ i i', j = n + i ∧ j' = n + i' ∧ (FX46_locate_L fN j).1 p ad ac sz md (nI many) (nI ea) (nI k) Mc = (FX46_locate_L fN i).1 p ad ac sz md (nI many) (nI ea) (nI many) Nc ∧
            (FX92_finds_L fN j').1 m (nI h) ad sz ac md flt (nI many) (nI k) Mt = (FX92_finds_L fN i').1 m (nI h) ad sz ac md flt (nI many) (nI many) Nt ∧
            RelP p h bd a fu cf rg u t hv kp fd m c1 f1 d1 w1 hq s dd x dk q rq r g sg bl cr np kn o fs B (Bk + n) Vv K F T rt tb Nc Nt ∧ Told d1 rt tb Nt ∧ WK (1121 :: lX46_find) Mc Nc ∧ WK (1323 :: lX101_find) Mt Nt ∧
            ∀ i, i < many → Nt_e fd m Nc Nt i ∧ PlG F T K ac md ea (ad + (nI i).toInt64) (Nc.2.1 3 (Nc.2.2 121 fd 0) i)) ∨
         ((FX46_locate_L fN j).1 p ad ac sz md (nI many) (nI ea) (nI k) Mc = some (Int32.ofInt 0, Nc) ∧ (FX92_finds_L fN j').1 m (nI h) ad sz ac md flt (nI many) (nI k) Mt = some (Int32.ofInt 0, Nt) ∧ Ty Nt ∧
            HX92_step_96 m c1 d1 Nt ∧ RelP p h bd a fu cf rg u t hv kp fd m c1 f1 d1 w1 hq s dd x dk q rq r g sg bl cr np kn none fs B (Bk + n) Vv K F T rt tb Nc (GX92_step_96 m c1 d1 Nt))) := by
  intro n
  induction n with
  | zero =>
    intro k Bk Mc Mt hk R To hB h322 hpl j j' hj hj'
    have RR := relP_ram R
    have e : k = many := by omega
    subst e
    exact ⟨Mc, Mt, evo_r r 0 Mc, WK_r RR.1.2.1, WK_r RR.2.1.2.1, Or.inl ⟨j, j', by omega, by omega, rfl, rfl, R, To, WK_r RR.1.2.1, WK_r RR.2.1.2.1, hpl⟩⟩
  | succ n ih =>
    intro k Bk Mc Mt hk R To hB h322 hpl j j' hj hj'
    obtain ⟨j, rfl⟩ : ∃ y, j = y + 1 := ⟨j - 1, by omega⟩
    obtain ⟨j', rfl⟩ : ∃ y, j' = y + 1 := ⟨j' - 1, by omega⟩
    have RR := relP_ram R
    obtain ⟨H1, H2, Nc, Nt, E, kX, kY, out⟩ := loc_s (k := k) (many := many) (ea := ea) (flt := flt) (sz := sz) (ad := ad) (ac := ac) (md := md) R To (by omega) hV hac hm (by omega) hm8 hea (hw k (by omega)) h322
    have g1 := (gX46_locate_90 (FX46_locate_L fN j).1 (FX46_locate_L fN j).2 p ad ac sz md (nI many) (nI ea) (nI k) Mc RR.1.1 R.1.1.1 H1).1
    have g2 := (gX92_finds_68 (FX92_finds_L fN j').1 (FX92_finds_L fN j').2 m (nI h) ad sz ac md flt (nI many) (nI k) Mt RR.2.1.1 R.2.1.1.1 H2).1
    have s1 : (FX46_locate_L fN (j + 1)).1 p ad ac sz md (nI many) (nI ea) (nI k) Mc = kX46_locate (FX46_locate_L fN j).1 (FX46_locate_L fN j).2 (GX46_locate_90 p ad ac sz md (nI many) (nI ea) (nI k) Mc) := g1
    have s2 : (FX92_finds_L fN (j' + 1)).1 m (nI h) ad sz ac md flt (nI many) (nI k) Mt = kX92_finds (FX92_finds_L fN j').1 (FX92_finds_L fN j').2 (GX92_finds_68 m (nI h) ad sz ac md flt (nI many) (nI k) Mt) := g2
    rcases out with ⟨pv, o1, o2, R2, To2, kc, kt, ⟨p1, p2⟩, ⟨q1, q2⟩, hg⟩ | ⟨o1, o2, oT, o3, o4⟩
    · have x322 : Nt.1 322 m 0 = Mt.1 322 m 0 := congrFun (kf (f := 322) kt rfl (dj_n (L := [322]) (by decide) 322 rfl) (wf_lt RR.2.1.2.1 (fm_ist rfl R.2.1.1.1))).1 0
      obtain ⟨Nc2, Nt2, E2, kX2, kY2, out2⟩ := ih (k + 1) (Bk + 1) Nc Nt (by omega) R2 To2 (by omega) (by rw [x322]; exact h322) (fun i hi => by
        by_cases e : i = k
        · subst e
          unfold Nt_e
          rw [p1, q1]
          exact ⟨rfl, hg⟩
        · have := hpl i (by omega)
          unfold Nt_e at *
          rw [p2 i e, q2 i e]
          exact this) j j' (by omega) (by omega)
      have eB : Bk + 1 + n = Bk + (n + 1) := by omega
      rw [eB] at out2
      refine ⟨Nc2, Nt2, evo_w (evo_t E E2) (by omega), WK_t kX kX2, WK_t kY kY2, ?_⟩
      rcases out2 with ⟨i, i', a1, a2, a3, a4, a5, a6, a7, a8, a9⟩ | ⟨a1, a2, aT, a3, a4⟩
      · exact Or.inl ⟨i, i', by omega, by omega, by rw [s1, o1]; exact a3, by rw [s2, o2]; exact a4, a5, a6, WK_t kc a7, WK_t kt a8, a9⟩
      · exact Or.inr ⟨by rw [s1, o1]; exact a1, by rw [s2, o2]; exact a2, aT, a3, a4⟩
    · exact ⟨Nc, Nt, evo_w E (by omega), kX, kY, Or.inr ⟨by rw [s1, o1]; rfl, by rw [s2, o2]; rfl, oT, o3, relP_up (Nat.le_refl _) (by omega) o4⟩⟩
/-- each place alone: is memory there -/
theorem chk_L {Mc Mt : FM} {Bk : Nat} (R : RelP p h bd a fu cf rg u t hv kp fd m c1 f1 d1 w1 hq s dd x dk q rq r g sg bl cr np kn o fs B Bk Vv K F T rt tb Mc Mt) (hm8 : many ≤ 8) (h124 : Mc.2.2 124 fd 0 = 0) (hfl : flt = fi (ac = Int32.ofInt 1) (Int32.ofInt 5) (Int32.ofInt 7)) (hpl : ∀ i, i < many → Nt_e fd m Mc Mt i) :
    ∀ n k, k + n = many → ∀ j j', n < j → n < j' →
      ((∀ i, k ≤ i → i < many → inR (Mc.2.1 3 (Mc.2.2 121 fd 0) i) 1) ∧ (FX46_locate_L fN j).2 p ad ac (nI many) (nI 1) (nI k) Mc = some (Int32.ofInt 1, Mc) ∧ (FX92_finds_L fN j').2 m ad (nI many) flt (nI k) Mt = some (Int32.ofInt 1, Mt)) ∨
      (∃ i, i < many ∧ (FX46_locate_L fN j).2 p ad ac (nI many) (nI 1) (nI k) Mc = some (GX46_raise p flt (ad + (nI i).toInt64) Mc) ∧ (FX92_finds_L fN j').2 m ad (nI many) flt (nI k) Mt = some (GX92_fail m flt (ad + (nI i).toInt64) Mt)) := by
  have RR := relP_ram R
  have v9 := R.1.1.2.2.2.2.2.2.2.2.2
  have b210 : Mc.2.2 210 p 0 = bd := R.1.1.2.2.1
  have b18 : Mc.2.2 18 bd 0 = r := R.2.2.2.2.2.2.2.2.1.1.2.2.1
  have nfd := R.1.2.2.2
  have n92 : fm_is Mt 92 92 m = true := R.2.1.1.1
  intro n
  induction n with
  | zero =>
    intro k hk j j' hj hj'
    obtain ⟨j, rfl⟩ : ∃ y, j = y + 1 := ⟨j - 1, by omega⟩
    obtain ⟨j', rfl⟩ : ∃ y, j' = y + 1 := ⟨j' - 1, by omega⟩
    have hle : nI many ≤ nI k := (n_le (by omega) (by omega)).mpr (by omega)
    refine Or.inl ⟨fun i h1 h2 => by omega, ?_, ?_⟩
    · have g1 := (gX46_locate_237 (FX46_locate_L fN j).1 (FX46_locate_L fN j).2 p ad ac (nI many) (nI 1) (nI k) Mc RR.1.1 R.1.1.1 ⟨fun _ => trivial, fun z => absurd hle z⟩).1
      show FX46_locate_237 fN (FX46_locate_L fN j).1 (FX46_locate_L fN j).2 p ad ac (nI many) (nI 1) (nI k) Mc = _
      rw [g1]
      unfold GX46_locate_237
      try dsimp only
      rw [fi_pos hle]
      rfl
    · have g2 := (gX92_finds_229 (FX92_finds_L fN j').1 (FX92_finds_L fN j').2 m ad (nI many) flt (nI k) Mt RR.2.1.1 n92 ⟨fun _ => trivial, fun z => absurd hle z⟩).1
      show FX92_finds_229 fN (FX92_finds_L fN j').1 (FX92_finds_L fN j').2 m ad (nI many) flt (nI k) Mt = _
      rw [g2]
      unfold GX92_finds_229
      try dsimp only
      rw [fi_pos hle]
      rfl
  | succ n ih =>
    intro k hk j j' hj hj'
    obtain ⟨j, rfl⟩ : ∃ y, j = y + 1 := ⟨j - 1, by omega⟩
    obtain ⟨j', rfl⟩ : ∃ y, j' = y + 1 := ⟨j' - 1, by omega⟩
    have hle : ¬ nI many ≤ nI k := fun q => by
      rw [n_le (by omega) (by omega)] at q
      omega
    have hck : (nI k).toNatClampNeg = k := o_cl (by omega)
    have hk1 : nI k + Int32.ofInt 1 = nI (k + 1) := nI_a
    have hin : fm_in Mc (Mc.2.2 121 fd 0) (nI k) = true := in_nI (tL_121 RR.1.1.1 nfd) (by omega) (by decide)
    have hin' : fm_in Mt (Mt.2.2 323 m 0) (nI k) = true := in_nI (tL_323 RR.2.1.1.1 n92) (by omega) (by decide)
    have ek := hpl k (by omega)
    unfold Nt_e at ek
    have hhas : GX11_has r (Mc.2.1 3 (Mc.2.2 121 fd 0) k) ((nI 1).toInt64) Mc = (bz (inR (Mc.2.1 3 (Mc.2.2 121 fd 0) k) 1), Mc) := X11_has RR.2.2.1 (b := (nI 1).toInt64) (by decide)
    have g1 := (gX46_locate_237 (FX46_locate_L fN j).1 (FX46_locate_L fN j).2 p ad ac (nI many) (nI 1) (nI k) Mc RR.1.1 R.1.1.1 (by
      refine ⟨fun _ => trivial, fun _ => ?_⟩
      try dsimp only
      rw [v9]
      exact ⟨fun _ => ⟨hin, trivial⟩, fun _ => trivial⟩)).1
    have g2 := (gX92_finds_229 (FX92_finds_L fN j').1 (FX92_finds_L fN j').2 m ad (nI many) flt (nI k) Mt RR.2.1.1 n92 ⟨fun _ => trivial, fun _ => ⟨hin', trivial⟩⟩).1
    have s1 : (FX46_locate_L fN (j + 1)).2 p ad ac (nI many) (nI 1) (nI k) Mc = kX46_locate (FX46_locate_L fN j).1 (FX46_locate_L fN j).2 (GX46_locate_237 p ad ac (nI many) (nI 1) (nI k) Mc) := g1
    have s2 : (FX92_finds_L fN (j' + 1)).2 m ad (nI many) flt (nI k) Mt = kX92_finds (FX92_finds_L fN j').1 (FX92_finds_L fN j').2 (GX92_finds_229 m ad (nI many) flt (nI k) Mt) := g2
    have U1 : GX46_locate_237 p ad ac (nI many) (nI 1) (nI k) Mc = fi (bz (inR (Mc.2.1 3 (Mc.2.2 121 fd 0) k) 1) = 0) (.inr (.inr (GX46_raise p flt (ad + (nI k).toInt64) Mc))) (.inr (.inl (p, ad, ac, nI many, nI 1, nI (k + 1), Mc))) := by
      unfold GX46_locate_237 GX46_locate_292
      try dsimp only
      rw [fi_neg hle]
      try dsimp only
      rw [v9, fi_pos h124, b210, b18, hck, hhas, hk1, hfl]
      by_cases c : ac = Int32.ofInt 1
      · rw [fi_pos c, fi_pos c]
      · rw [fi_neg c, fi_neg c]
    have U2 : GX92_finds_229 m ad (nI many) flt (nI k) Mt = fi (bz (inR (Mc.2.1 3 (Mc.2.2 121 fd 0) k) 1) = 0) (.inr (.inr (GX92_fail m flt (ad + (nI k).toInt64) Mt))) (.inr (.inl (m, ad, nI many, flt, nI (k + 1), Mt))) := by
      unfold GX92_finds_229
      try dsimp only
      rw [fi_neg hle]
      try dsimp only
      rw [hck, X93_isByte, hk1, ek]
    by_cases c : inR (Mc.2.1 3 (Mc.2.2 121 fd 0) k) 1
    · rw [bz_t c, fi_neg (by decide)] at U1 U2
      rw [U1] at s1
      rw [U2] at s2
      rcases ih (k + 1) (by omega) j j' (by omega) (by omega) with ⟨a1, a2, a3⟩ | ⟨i, a1, a2, a3⟩
      · refine Or.inl ⟨fun i h1 h2 => ?_, by rw [s1]; exact a2, by rw [s2]; exact a3⟩
        by_cases e : i = k
        · rw [e]
          exact c
        · exact a1 i (by omega) h2
      · exact Or.inr ⟨i, a1, by rw [s1]; exact a2, by rw [s2]; exact a3⟩
    · rw [bz_f c, fi_pos (show Int32.ofInt 0 = 0 from rfl)] at U1 U2
      rw [U1] at s1
      rw [U2] at s2
      exact Or.inr ⟨k, by omega, by rw [s1]; rfl, by rw [s2]; rfl⟩
end Lp
