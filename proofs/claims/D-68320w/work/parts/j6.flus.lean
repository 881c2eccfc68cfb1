/-! floats: small methods of both sides; the relation -/
set_option maxRecDepth 100000
def VIs (s : Fs) : Prop := ui s.2.1 < 32 ∧ s.2.2.1 < 8
/-- the twin's view, but for the integer that was given last -/
def VFw (f : Nat) (M : FM) (s : Fs) : Prop := ∃ y, VFt f M (sVal y s)
def RelF (u : Nat) (c : Nat → Nat) (rg f : Nat) (Mc Mt : FM) (s : Fs) : Prop := FlU u c rg Mc ∧ FlO f Mt ∧ VFc u c rg Mc s ∧ VFw f Mt s ∧ VIs s
def sFlags (v : Int32) (s : Fs) : Fs := (s.1, v &&& Int32.ofInt 31, s.2.2.1, Int32.ofInt 1, s.2.2.2.2)
def sMode (v : Int32) (s : Fs) : Fs := (s.1, s.2.1, ui v % 8, Int32.ofInt 1, s.2.2.2.2)
def sCalm (s : Fs) : Fs := (s.1, s.2.1, s.2.2.1, Int32.ofInt 0, s.2.2.2.2)
section Ud
variable {u rg f t d i : Nat} {c : Nat → Nat} {M N : FM} {s : Fs} {w : Int32} {v x : Int64}
theorem or32 {a b : Nat} (ha : a < 32) (hb : b < 32) : a ||| b < 32 := Nat.or_lt_two_pow (n := 5) ha hb
theorem opB2_l {md a b : Nat} {R : Rt × Nat} (h : R.2 ≤ 16) : (opB2 t md a b R).2 < 32 := by
  unfold opB2
  split
  · dsimp only
    split <;> decide
  · exact or32 (by omega) (by have := fin_le t md R.1; omega)
theorem opB1_l {md a : Nat} {R : Rt × Nat} (h : R.2 ≤ 16) : (opB1 t md a R).2 < 32 := by
  unfold opB1
  split
  · dsimp only
    split <;> decide
  · exact or32 (by omega) (by have := fin_le t md R.1; omega)
theorem fus_l {md : Nat} {X Y Z : UU} {a b : Bool} : (fusR t md X Y Z a b).2 < 32 := by
  have h1 := fin_le t md (adN md ((X.2.1 ^^ Y.2.1) ^^ a) (X.2.2.1 * Y.2.2.1) (X.2.2.2 + Y.2.2.2) (Z.2.1 ^^ b) Z.2.2.1 Z.2.2.2)
  unfold fusR
  split
  · exact (by decide : (16 : Nat) < 32)
  · split
    · dsimp only
      split <;> decide
    · split
      · split
        · exact (by decide : (16 : Nat) < 32)
        · exact (by decide : (0 : Nat) < 32)
      · split
        · exact (by decide : (0 : Nat) < 32)
        · exact Nat.lt_of_le_of_lt h1 (by decide)
theorem toI_l {b md : Nat} {X : UU} : (toI b md X).2 < 32 := by
  unfold toI
  dsimp only
  by_cases q : toB b md X
  · rw [fi_pos q]
    decide
  · rw [fi_neg q]
    by_cases q2 : toC X = 0
    · rw [fi_pos q2]
      decide
    · rw [fi_neg q2]
      decide
theorem cmV_l {r : Nat} {X Y : UU} : (cmV r X Y).2 < 32 := by
  unfold cmV
  split
  · dsimp only
    split <;> decide
  · exact (by decide : (0 : Nat) < 32)
theorem fRun_l (w : Int32) (v : Int64) (s : Fs) : ∀ fl r, fRun w v s = some (fl, r) → fl < 32 := by
  intro fl r h
  have e : ∀ {p : Prop} [Decidable p] {a b : Fo}, ((if p then a else b) = some (fl, r)) → (p → a = some (fl, r) → fl < 32) → (¬ p → b = some (fl, r) → fl < 32) → fl < 32 := fun {p} _ {a b} h k1 k2 => by
    by_cases q : p
    · rw [if_pos q] at h
      exact k1 q h
    · rw [if_neg q] at h
      exact k2 q h
  have no : ∀ {P : Prop}, (none : Fo) = some (fl, r) → P := fun h => by cases h
  have sm : ∀ {n : Nat} {z : Int64 ⊕ Int64}, n < 32 → (some (n, z) : Fo) = some (fl, r) → fl < 32 := fun {n z} hn h => by
    injection h with h
    injection h with h1 h2
    omega
  unfold fRun at h
  refine e h (fun _ h => no h) (fun _ h => e h (fun _ h => e h (fun _ h => sm fus_l h) (fun _ h => no h)) (fun _ h => e h (fun _ h => ?_) (fun _ h => no h)))
  refine e h (fun _ h => e h (fun _ h => sm (by decide) h) (fun _ h => no h)) (fun _ h => ?_)
  refine e h (fun _ h => e h (fun _ h => sm (by split <;> decide) h) (fun _ h => no h)) (fun _ h => ?_)
  refine e h (fun _ h => e h (fun _ h => sm cmV_l h) (fun _ h => no h)) (fun _ h => ?_)
  refine e h (fun _ h => e h (fun _ h => e h (fun _ h => sm (by decide) h) (fun _ h => no h)) (fun _ h => no h)) (fun _ h => ?_)
  refine e h (fun _ h => e h (fun _ h => sm (by decide) h) (fun _ h => no h)) (fun _ h => ?_)
  refine e h (fun _ h => ?_) (fun _ h => no h)
  refine e h (fun _ h => sm (opB2_l (opR_le _ _ _ _)) h) (fun _ h => ?_)
  refine e h (fun _ h => e h (fun _ h => sm (opB1_l (rootR_le _)) h) (fun _ h => no h)) (fun _ h => ?_)
  refine e h (fun _ h => e h (fun _ h => sm (opB1_l (Nat.zero_le _)) h) (fun _ h => no h)) (fun _ h => ?_)
  refine e h (fun _ h => e h (fun _ h => sm toI_l h) (fun _ h => no h)) (fun _ h => ?_)
  refine e h (fun _ h => e h (fun _ h => sm (by have := fin_le (pt w 25 2) (mdO s.2.2.1 (pt w 12 3)) (frI (pt w 20 5) v); omega) h) (fun _ h => no h)) (fun _ h => no h)
theorem vIs_fl {fl : Nat} (h : VIs s) (hf : fl < 32) : VIs (sFl fl s) := by
  refine ⟨?_, h.2⟩
  show ui (s.2.1 ||| nI fl) < 32
  rw [ui_or, ni_u (by omega)]
  exact or32 h.1 hf
theorem vIs_ap (h : VIs s) : VIs (fAp t d (fRun w v s) s).2 := by
  have l := fRun_l w v s
  generalize fRun w v s = o at l
  match o with
  | none => exact h
  | some (fl, .inl b) => exact vIs_fl h (l fl _ rfl)
  | some (fl, .inr b) => exact vIs_fl h (l fl _ rfl)
theorem fRun_v (w : Int32) (v y : Int64) (s : Fs) : fRun w v (sVal y s) = fRun w v s := rfl
theorem fAp_y (o : Fo) (y : Int64) (s : Fs) : (fAp t d o (sVal y s)).1 = (fAp t d o s).1 ∧ ∃ y', (fAp t d o (sVal y s)).2 = sVal y' (fAp t d o s).2 ∧ ((fAp t d o s).1 = Int32.ofInt 1 → y' = (fAp t d o s).2.2.2.2.2) := by
  match o with
  | none => exact ⟨rfl, y, rfl, fun h => absurd (show Int32.ofInt (-1) = Int32.ofInt 1 from h) (by decide)⟩
  | some (fl, .inl b) => exact ⟨rfl, y, rfl, fun h => absurd (show Int32.ofInt 0 = Int32.ofInt 1 from h) (by decide)⟩
  | some (fl, .inr b) => exact ⟨rfl, b, rfl, fun _ => rfl⟩
/-- an instruction: both sides do the same -/
theorem rel_frun {Mc Mt : FM} (R : RelF u c rg f Mc Mt s) : ∃ Nc Nt s', (HX59_run u w v Mc ∧ HX99_run f w v Mt) ∧ ∃ r, GX59_run u w v Mc = (r, Nc) ∧ GX99_run f w v Mt = (r, Nt) ∧ FrU u c rg Mc Nc ∧ FrTF f Mt Nt ∧ (r, s') = fAp (pt w 25 2) (pt w 7 5) (fRun w v s) s ∧ RelF u c rg f Nc Nt s' ∧ (r = Int32.ofInt 1 → VFt f Nt s') := by
  obtain ⟨r1, r2, r3, ⟨y, r4⟩, r5⟩ := R
  obtain ⟨Nc, ⟨h1, e1⟩, f1, v1⟩ := X59_run (w := w) (x := v) r1 r3 r5.2
  obtain ⟨Nt, ⟨h2, e2⟩, f2, v2⟩ := X99_run (w := w) (v := v) r2 r4 r5.2
  rw [fRun_v] at e2 v2
  obtain ⟨k1, y', k2, k3⟩ := fAp_y (t := pt w 25 2) (d := pt w 7 5) (fRun w v s) y s
  rw [k1] at e2
  rw [k2] at v2
  refine ⟨Nc, Nt, _, ⟨h1, h2⟩, _, e1, e2, f1, f2, rfl, ⟨flU_f r1 f1, flO_T r2 f2, v1, ⟨y', v2⟩, vIs_ap r5⟩, fun h => ?_⟩
  have := k3 h
  rw [this] at v2
  exact v2
/-- small methods: the component -/
theorem X59_set (o : FlU u c rg M) (q : VFc u c rg M s) (hi : i < 32) (x : Int64) : HX59_set u (nI i) x M ∧ FrU u c rg M (GX59_set u (nI i) x M) ∧ VFc u c rg (GX59_set u (nI i) x M) (sPut i x s) := by
  obtain ⟨h, N, e, fr, vv⟩ := X59_w27 o q hi x
  have e2 : GX59_set u (nI i) x M = N := by
    have : (GX59_write_27 u rg (nI i) x M).2 = N := by rw [e]
    rw [← this]
    unfold GX59_set GX59_set_0 GX59_write_27
    dsimp only
    rw [o.2.2.1.1]
  have eH : HX59_set u (nI i) x M = (fm_in M (M.2.2 93 u 0) (nI i) = true ∧ True) := rfl
  rw [e2, eH, o.2.2.1.1]
  exact ⟨h, fr, vv⟩
theorem or_z1 {x : Int32} (h : x = 0 ∨ x = 1) : x ||| Int32.ofInt 0 = x := by
  rcases h with e | e <;> rw [e] <;> decide
theorem X59_putFlags (o : FlU u c rg M) (q : VFc u c rg M s) (x : Int32) : FrU u c rg M (GX59_putFlags u x M) ∧ VFc u c rg (GX59_putFlags u x M) (sFlags x s) := by
  obtain ⟨v1, v2, v3, v4, v5⟩ := q
  have e : GX59_putFlags u x M = fm_sI (fm_sI M 91 (c 12) 0 (x &&& Int32.ofInt 31)) 96 u 0 (Int32.ofInt 1) := by
    unfold GX59_putFlags GX59_putFlags_0
    dsimp only
    rw [(e105 o.1).2.2.2.2]
  rw [e]
  refine ⟨⟨⟨o.1.1.1, tyb_sIb (by rfl) (tyb_sI (by rfl) o.1.1.2) (Or.inr rfl)⟩, fun _ _ _ _ => rfl, fun g b i _ q r => (oI (fun z => r ⟨Or.inr z.1, z.2.1⟩)).trans (oI (fun z => q ⟨Or.inl z.1, z.2.1⟩)), fun _ _ _ _ _ _ _ => rfl⟩, v1, ?_, ?_, ?_, v5⟩
  · exact (oI (fun z => by omega)).trans (sI_at _ _ _ _ _)
  · exact (oI (fun z => by omega)).trans ((oI (fun z => by omega)).trans v3)
  · rw [sI_at]
    have e92 : (fm_sI (fm_sI M 91 (c 12) 0 (x &&& Int32.ofInt 31)) 96 u 0 (Int32.ofInt 1)).1 92 (c 12) 0 = M.1 92 (c 12) 0 := (oI (fun z => by omega)).trans (oI (fun z => by omega))
    rw [e92]
    exact or_1z (z92 o)
theorem and7 (x : Int32) : x &&& Int32.ofInt 7 = nI (ui x % 8) := by
  apply ui_inj
  have := Nat.mod_lt (ui x) (show 8 > 0 by decide)
  rw [ui_and, show ui (Int32.ofInt 7) = 2 ^ 3 - 1 from rfl, Nat.and_two_pow_sub_one_eq_mod, ni_u (by omega)]
theorem X59_putMode (o : FlU u c rg M) (q : VFc u c rg M s) (x : Int32) : FrU u c rg M (GX59_putMode u x M) ∧ VFc u c rg (GX59_putMode u x M) (sMode x s) := by
  obtain ⟨v1, v2, v3, v4, v5⟩ := q
  have e : GX59_putMode u x M = fm_sI (fm_sI M 95 u 0 (nI (ui x % 8))) 96 u 0 (Int32.ofInt 1) := by
    rw [← and7]
    rfl
  rw [e]
  refine ⟨⟨⟨o.1.1.1, tyb_sIb (by rfl) (tyb_sI (by rfl) o.1.1.2) (Or.inr rfl)⟩, fun _ _ _ _ => rfl, fun g b i _ q r => (oI (fun z => r ⟨Or.inr z.1, z.2.1⟩)).trans (oI (fun z => r ⟨Or.inl z.1, z.2.1⟩)), fun _ _ _ _ _ _ _ => rfl⟩, v1, ?_, ?_, ?_, v5⟩
  · exact (oI (fun z => by omega)).trans ((oI (fun z => by omega)).trans v2)
  · exact (oI (fun z => by omega)).trans (sI_at _ _ _ _ _)
  · rw [sI_at]
    have e92 : (fm_sI (fm_sI M 95 u 0 (nI (ui x % 8))) 96 u 0 (Int32.ofInt 1)).1 92 (c 12) 0 = M.1 92 (c 12) 0 := (oI (fun z => by omega)).trans (oI (fun z => by omega))
    rw [e92]
    exact or_1z (z92 o)
theorem X59_isWritten (o : FlU u c rg M) (q : VFc u c rg M s) : GX59_isWritten u M = (s.2.2.2.1, M) := by
  have z1 := o.1.1.2.1 96 (by decide) u 0
  have z2 := z92 o
  rw [← q.2.2.2.1]
  unfold GX59_isWritten GX59_isWritten_0 GX59_isWritten_17 GX59_isWritten_22
  dsimp only
  rw [(e105 o.1).2.2.2.2]
  rcases z1 with a | a <;> rcases z2 with b | b <;> rw [a, b]
  · rw [fi_pos rfl, fi_pos rfl]
    exact congrArg (fun z => (z, M)) (by decide)
  · rw [fi_pos rfl, fi_neg (by decide)]
    exact congrArg (fun z => (z, M)) (by decide)
  · rw [fi_neg (by decide)]
    exact congrArg (fun z => (z, M)) (by decide)
  · rw [fi_neg (by decide)]
    exact congrArg (fun z => (z, M)) (by decide)
theorem X59_calm (o : FlU u c rg M) (q : VFc u c rg M s) : FrU u c rg M (GX59_calm u M) ∧ VFc u c rg (GX59_calm u M) (sCalm s) := by
  obtain ⟨v1, v2, v3, v4, v5⟩ := q
  have e : GX59_calm u M = fm_sI (fm_sI M 96 u 0 (Int32.ofInt 0)) 92 (c 12) 0 (Int32.ofInt 0) := by
    unfold GX59_calm GX59_calm_0
    dsimp only
    rw [show (fm_sI M 96 u 0 (Int32.ofInt 0)).2.2 94 u 0 = c 12 from (e105 o.1).2.2.2.2]
  rw [e]
  refine ⟨⟨⟨o.1.1.1, tyb_sIb (by rfl) (tyb_sIb (by rfl) o.1.1.2 (Or.inl rfl)) (Or.inl rfl)⟩, fun _ _ _ _ => rfl, fun g b i _ q r => (oI (fun z => q ⟨Or.inr z.1, z.2.1⟩)).trans (oI (fun z => r ⟨Or.inr z.1, z.2.1⟩)), fun _ _ _ _ _ _ _ => rfl⟩, v1, ?_, ?_, ?_, v5⟩
  · exact (oI (fun z => by omega)).trans ((oI (fun z => by omega)).trans v2)
  · exact (oI (fun z => by omega)).trans ((oI (fun z => by omega)).trans v3)
  · rw [sI_at, show (fm_sI (fm_sI M 96 u 0 (Int32.ofInt 0)) 92 (c 12) 0 (Int32.ofInt 0)).1 96 u 0 = Int32.ofInt 0 from (oI (fun z => by omega)).trans (sI_at _ _ _ _ _)]
    show _ = Int32.ofInt 0
    decide
/-- the twin -/
theorem isNo_n (hi : i < 32) : GX99_isNo f (nI i) M = (Int32.ofInt 0, fm_sI M 366 f 0 (Int32.ofInt 0)) := by
  have h1 : ¬ nI i < 0 := fun z => by have := (ni_lt (z := 0) (k := i) (by omega)).mp z; omega
  have h2 : nI i ≤ Int32.ofInt 31 := (ni_le (z := 31) (k := i) (by omega)).mpr (by omega)
  unfold GX99_isNo GX99_isNo_0 GX99_isNo_16 GX99_isNo_31
  rw [fi_neg h1, fi_pos h2]
  dsimp only
  rw [sI_at, fi_pos (by decide)]
theorem X99_get_v (o : FlO f M) (q : VFt f M s) (hi : i < 32) : HX99_get f (nI i) M ∧ GX99_get f (nI i) M = (s.1 i, fm_sI M 366 f 0 (Int32.ofInt 0)) := by
  have i0 : fm_in (fm_sI M 366 f 0 (Int32.ofInt 0)) (M.2.2 367 f 0) (nI i) = true := in_nI (tL_367 o.1.1 o.2.1) (by omega) (by decide)
  unfold HX99_get HX99_get_0 GX99_get GX99_get_0 GX99_get_18
  rw [isNo_n hi]
  dsimp only
  rw [fi_pos (show Int32.ofInt 0 = 0 from rfl), o_cl (by omega)]
  exact ⟨⟨fun _ => ⟨i0, trivial⟩, fun z => absurd rfl z⟩, congrArg (fun z => (z, fm_sI M 366 f 0 (Int32.ofInt 0))) (q.1 i hi)⟩
theorem X99_set_v (o : FlO f M) (q : VFt f M s) (hi : i < 32) (x : Int64) : HX99_set f (nI i) x M ∧ FrTF f M (GX99_set f (nI i) x M) ∧ VFt f (GX99_set f (nI i) x M) (sPut i x s) := by
  have f0 := frT_366 (f := f) o.1 (Int32.ofInt 0)
  obtain ⟨h, N, e, r, z⟩ := X99_write (t := 1) (flO_T o f0) (vFt_366 q) (by decide) hi x
  have e1 : GX99_write f (nI i) x (Int32.ofInt 1) (fm_sI M 366 f 0 (Int32.ofInt 0)) = (Int32.ofInt 0, N) := e
  unfold HX99_set HX99_set_0 GX99_set GX99_set_0 GX99_set_16
  rw [isNo_n hi]
  dsimp only
  rw [fi_pos (show Int32.ofInt 0 = 0 from rfl), e1]
  exact ⟨⟨fun _ => ⟨h, trivial⟩, fun z => absurd rfl z⟩, frT_tF f0 r, z⟩
theorem X99_box_v (o : FlO f M) (q : VFt f M s) (hi : i < 32) (x : Int32) : HX99_box f (nI i) x M ∧ FrTF f M (GX99_box f (nI i) x M) ∧ VFt f (GX99_box f (nI i) x M) (sPut i ((x.toInt64 &&& Int64.ofInt 4294967295) ||| Int64.ofInt (-4294967296)) s) := by
  have f0 := frT_366 (f := f) o.1 (Int32.ofInt 0)
  obtain ⟨h, N, e, r, z⟩ := X99_write (t := 0) (flO_T o f0) (vFt_366 q) (by decide) hi (x.toInt64 &&& Int64.ofInt 4294967295)
  have e1 : GX99_write f (nI i) (x.toInt64 &&& Int64.ofInt 4294967295) (Int32.ofInt 0) (fm_sI M 366 f 0 (Int32.ofInt 0)) = (Int32.ofInt 0, N) := e
  unfold HX99_box HX99_box_0 GX99_box GX99_box_0 GX99_box_21
  rw [isNo_n hi]
  dsimp only
  rw [fi_pos (show Int32.ofInt 0 = 0 from rfl), e1]
  exact ⟨⟨fun _ => ⟨h, trivial⟩, fun z => absurd rfl z⟩, frT_tF f0 r, z⟩
theorem X99_putFlags_v (o : FlO f M) (q : VFt f M s) (x : Int32) : FrTF f M (GX99_putFlags f x M) ∧ VFt f (GX99_putFlags f x M) (sFlags x s) := by
  obtain ⟨v1, v2, v3, v4, v5⟩ := q
  have e : GX99_putFlags f x M = fm_sI (fm_sI (fm_sI M 366 f 0 (Int32.ofInt 0)) 368 f 0 (x &&& Int32.ofInt 31)) 371 f 0 (Int32.ofInt 1) := rfl
  rw [e]
  refine ⟨⟨⟨o.1.1, tyb_sIb (by rfl) (tyb_sI (by rfl) (tyb_sI (by rfl) o.1.2)) (Or.inr rfl)⟩, rfl, fun g b i p r => (oI (fun z => p (Or.inl ⟨z.2.1, by omega⟩))).trans ((oI (fun z => p (Or.inl ⟨z.2.1, by omega⟩))).trans (oI (fun z => r ⟨z.2.1, Or.inl z.1⟩))), fun _ _ _ _ _ _ => rfl⟩, v1, ?_, ?_, sI_at _ _ _ _ _, v5⟩
  · exact (oI (fun z => by omega)).trans (sI_at _ _ _ _ _)
  · exact (oI (fun z => by omega)).trans ((oI (fun z => by omega)).trans ((oI (fun z => by omega)).trans v3))
theorem X99_putMode_v (o : FlO f M) (q : VFt f M s) (x : Int32) : FrTF f M (GX99_putMode f x M) ∧ VFt f (GX99_putMode f x M) (sMode x s) := by
  obtain ⟨v1, v2, v3, v4, v5⟩ := q
  have e : GX99_putMode f x M = fm_sI (fm_sI (fm_sI M 366 f 0 (Int32.ofInt 0)) 369 f 0 (nI (ui x % 8))) 371 f 0 (Int32.ofInt 1) := by
    rw [← and7]
    rfl
  rw [e]
  refine ⟨⟨⟨o.1.1, tyb_sIb (by rfl) (tyb_sI (by rfl) (tyb_sI (by rfl) o.1.2)) (Or.inr rfl)⟩, rfl, fun g b i p r => (oI (fun z => p (Or.inl ⟨z.2.1, by omega⟩))).trans ((oI (fun z => r ⟨z.2.1, Or.inr z.1⟩)).trans (oI (fun z => r ⟨z.2.1, Or.inl z.1⟩))), fun _ _ _ _ _ _ => rfl⟩, v1, ?_, ?_, sI_at _ _ _ _ _, v5⟩
  · exact (oI (fun z => by omega)).trans ((oI (fun z => by omega)).trans ((oI (fun z => by omega)).trans v2))
  · exact (oI (fun z => by omega)).trans (sI_at _ _ _ _ _)
theorem X99_calm_v (o : FlO f M) (q : VFt f M s) : FrTF f M (GX99_calm f M) ∧ VFt f (GX99_calm f M) (sCalm s) := by
  obtain ⟨v1, v2, v3, v4, v5⟩ := q
  have e : GX99_calm f M = fm_sI (fm_sI M 366 f 0 (Int32.ofInt 0)) 371 f 0 (Int32.ofInt 0) := rfl
  rw [e]
  refine ⟨⟨⟨o.1.1, tyb_sIb (by rfl) (tyb_sI (by rfl) o.1.2) (Or.inl rfl)⟩, rfl, fun g b i p r => (oI (fun z => p (Or.inl ⟨z.2.1, by omega⟩))).trans (oI (fun z => r ⟨z.2.1, Or.inl z.1⟩)), fun _ _ _ _ _ _ => rfl⟩, v1, ?_, ?_, sI_at _ _ _ _ _, v5⟩
  · exact (oI (fun z => by omega)).trans ((oI (fun z => by omega)).trans v2)
  · exact (oI (fun z => by omega)).trans ((oI (fun z => by omega)).trans v3)
/-- what is told: each leaves but a 0 for what was thrown -/
theorem t_told_v (q : VFt f M s) : GX99_flags f M = (s.2.1, fm_sI M 366 f 0 (Int32.ofInt 0)) ∧ GX99_mode f M = (nI s.2.2.1, fm_sI M 366 f 0 (Int32.ofInt 0)) ∧ GX99_written f M = (s.2.2.2.1, fm_sI M 366 f 0 (Int32.ofInt 0)) ∧ GX99_value f M = (s.2.2.2.2, fm_sI M 366 f 0 (Int32.ofInt 0)) := by
  have k : ∀ {α : Type} (x y : α), x = y → (x, fm_sI M 366 f 0 (Int32.ofInt 0)) = (y, fm_sI M 366 f 0 (Int32.ofInt 0)) := fun x y e => by rw [e]
  exact ⟨k _ _ ((oI (fun z => by omega)).trans q.2.1), k _ _ ((oI (fun z => by omega)).trans q.2.2.1), k _ _ ((oI (fun z => by omega)).trans q.2.2.2.1), k _ _ q.2.2.2.2⟩
/-- the same, where the integer that was given last is another one -/
theorem X99_get (o : FlO f M) (q : VFw f M s) (hi : i < 32) : HX99_get f (nI i) M ∧ GX99_get f (nI i) M = (s.1 i, fm_sI M 366 f 0 (Int32.ofInt 0)) := by
  obtain ⟨y, q⟩ := q
  have k := X99_get_v o q hi
  exact k
theorem X99_set (o : FlO f M) (q : VFw f M s) (hi : i < 32) (x : Int64) : HX99_set f (nI i) x M ∧ FrTF f M (GX99_set f (nI i) x M) ∧ VFw f (GX99_set f (nI i) x M) (sPut i x s) := by
  obtain ⟨y, q⟩ := q
  obtain ⟨a, b, c⟩ := X99_set_v o q hi x
  exact ⟨a, b, y, c⟩
theorem X99_box (o : FlO f M) (q : VFw f M s) (hi : i < 32) (x : Int32) : HX99_box f (nI i) x M ∧ FrTF f M (GX99_box f (nI i) x M) ∧ VFw f (GX99_box f (nI i) x M) (sPut i ((x.toInt64 &&& Int64.ofInt 4294967295) ||| Int64.ofInt (-4294967296)) s) := by
  obtain ⟨y, q⟩ := q
  obtain ⟨a, b, c⟩ := X99_box_v o q hi x
  exact ⟨a, b, y, c⟩
theorem X99_putFlags (o : FlO f M) (q : VFw f M s) (x : Int32) : FrTF f M (GX99_putFlags f x M) ∧ VFw f (GX99_putFlags f x M) (sFlags x s) := by
  obtain ⟨y, q⟩ := q
  obtain ⟨b, c⟩ := X99_putFlags_v o q x
  exact ⟨b, y, c⟩
theorem X99_putMode (o : FlO f M) (q : VFw f M s) (x : Int32) : FrTF f M (GX99_putMode f x M) ∧ VFw f (GX99_putMode f x M) (sMode x s) := by
  obtain ⟨y, q⟩ := q
  obtain ⟨b, c⟩ := X99_putMode_v o q x
  exact ⟨b, y, c⟩
theorem X99_calm (o : FlO f M) (q : VFw f M s) : FrTF f M (GX99_calm f M) ∧ VFw f (GX99_calm f M) (sCalm s) := by
  obtain ⟨y, q⟩ := q
  obtain ⟨b, c⟩ := X99_calm_v o q
  exact ⟨b, y, c⟩
theorem t_told (q : VFw f M s) : GX99_flags f M = (s.2.1, fm_sI M 366 f 0 (Int32.ofInt 0)) ∧ GX99_mode f M = (nI s.2.2.1, fm_sI M 366 f 0 (Int32.ofInt 0)) ∧ GX99_written f M = (s.2.2.2.1, fm_sI M 366 f 0 (Int32.ofInt 0)) ∧ True := by
  obtain ⟨y, q⟩ := q
  obtain ⟨a, b, c, _⟩ := t_told_v q
  exact ⟨a, b, c, trivial⟩
end Ud
