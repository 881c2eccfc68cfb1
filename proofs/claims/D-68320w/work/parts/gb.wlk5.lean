/-! walks: the component reads an entry, and the last one -/
set_option maxRecDepth 100000
/-- the table of faults -/
def FaI (t : Nat) (M : FM) : Prop := ∀ i, i < 3 → M.2.2 1 (M.2.2 3 (M.2.2 286 t 0) i) 0 = 2 ∧ M.1 3 (M.2.2 3 (M.2.2 286 t 0) i) 0 = nI (if i = 0 then 1 else if i = 1 then 5 else 7) ∧ M.1 3 (M.2.2 3 (M.2.2 286 t 0) i) 1 = nI (if i = 0 then 12 else if i = 1 then 13 else 15) ∧ M.2.2 0 (M.2.2 3 (M.2.2 286 t 0) i) 1 = 8
def acc3 (ac : Int32) : Prop := ac = 0 ∨ ac = Int32.ofInt 1 ∨ ac = Int32.ofInt 2
theorem X84_fault {t : Nat} {M : FM} {ac : Int32} (Tm : Ty M) (n : fm_is M 91 91 t = true) (Fa : FaI t M) (hac : acc3 ac) :
    (HX84_fault t ac (Int32.ofInt 0) M ∧ GX84_fault t ac (Int32.ofInt 0) M = (acF ac, M)) ∧ (HX84_fault t ac (Int32.ofInt 1) M ∧ GX84_fault t ac (Int32.ofInt 1) M = (pgF ac, M)) := by
  obtain ⟨j, hj, e⟩ : ∃ j, j < 3 ∧ ac = nI j := by
    rcases hac with h | h | h
    · exact ⟨0, by decide, h⟩
    · exact ⟨1, by decide, h⟩
    · exact ⟨2, by decide, h⟩
  subst e
  obtain ⟨f1, f2, f3, _⟩ := Fa j hj
  have i1 : fm_in M (M.2.2 286 t 0) (nI j) = true := in_nI (tL_286 Tm.1 n) hj (by decide)
  have ec : (nI j).toNatClampNeg = j := o_cl (by omega)
  have i2 : ∀ k, k < 2 → fm_in M (M.2.2 3 (M.2.2 286 t 0) j) (nI k) = true := fun k hk => in_nI f1 hk (by decide)
  have d : ∀ {j}, j < 3 → (-(nI (if j = 0 then 1 else if j = 1 then 5 else 7))).toInt64 = acF (nI j) ∧ (-(nI (if j = 0 then 12 else if j = 1 then 13 else 15))).toInt64 = pgF (nI j) := fun {j} hj => by
    unfold acF pgF
    simp only [fi_if]
    have : j = 0 ∨ j = 1 ∨ j = 2 := by omega
    rcases this with rfl | rfl | rfl <;> decide
  unfold HX84_fault HX84_fault_0 GX84_fault GX84_fault_0
  dsimp only
  rw [ec]
  refine ⟨⟨⟨i1, i2 0 (by decide), trivial⟩, ?_⟩, ⟨⟨i1, i2 1 (by decide), trivial⟩, ?_⟩⟩
  · rw [show (Int32.ofInt 0).toNatClampNeg = 0 from rfl, f2, (d hj).1]
  · rw [show (Int32.ofInt 1).toNatClampNeg = 1 from rfl, f3, (d hj).2]
/-- what the component's translator shows -/
def WtC (t r g : Nat) (M : FM) (K : Rg) (rt : Int32) (tb : Int64) : Prop := RamI r M ∧ M.1 202 r 0 = Int32.ofInt 1024 ∧ fm_is M 91 91 t = true ∧ M.2.2 247 (M.2.2 287 t 0) 0 = r ∧ M.2.2 288 t 0 = g ∧ VGc g M K ∧ FaI t M ∧ M.2.1 289 t 0 = tb ∧ M.1 290 t 0 = rt
def FrTW (t : Nat) (M M' : FM) : Prop := M'.2.2 = M.2.2 ∧ (∀ f b i, ¬ (f = 294 ∧ b = t) → M'.1 f b i = M.1 f b i) ∧ ∀ f b i, ¬ (((f = 292 ∨ f = 293) ∧ b = t) ∨ (f = 3 ∧ b = M.2.2 295 t 0)) → M'.2.1 f b i = M.2.1 f b i
theorem frT_rW (t : Nat) (M : FM) : FrTW t M M := ⟨rfl, fun _ _ _ _ => rfl, fun _ _ _ _ => rfl⟩
section Ft
variable {t r g : Nat} {M N X : FM} {K : Rg} {rt : Int32} {tb : Int64}
theorem frT_tW (h : FrTW t M N) (k : FrTW t N X) : FrTW t M X :=
  ⟨k.1.trans h.1, fun f b i z => (k.2.1 f b i z).trans (h.2.1 f b i z), fun f b i z => (k.2.2 f b i (by rw [h.1]; exact z)).trans (h.2.2 f b i z)⟩
theorem frT_LW {f : Nat} {v : Int64} (h : FrTW t M N) (hf : f = 292 ∨ f = 293) : FrTW t M (fm_sL N f t 0 v) :=
  ⟨h.1, h.2.1, fun g b i z => by rw [rL, if_neg (fun q => z (Or.inl ⟨by rw [q.1]; exact hf, q.2.1⟩))]; exact h.2.2 g b i z⟩
theorem frT_AW {k : Nat} {v : Int64} (h : FrTW t M N) : FrTW t M (fm_sL N 3 (M.2.2 295 t 0) k v) :=
  ⟨h.1, h.2.1, fun g b i z => by rw [rL, if_neg (fun q => z (Or.inr ⟨q.1, q.2.1⟩))]; exact h.2.2 g b i z⟩
theorem frT_IW {v : Int32} (h : FrTW t M N) : FrTW t M (fm_sI N 294 t 0 v) :=
  ⟨h.1, fun g b i z => by rw [rI, if_neg (fun q => z ⟨q.1, q.2.1⟩)]; exact h.2.1 g b i z, h.2.2⟩
theorem frT_isW (h : FrTW t M N) {lo hi a : Nat} (k : fm_is M lo hi a = true) : fm_is N lo hi a = true := by
  unfold fm_is at *
  rw [h.1]
  exact k
theorem frT_ty (h : FrTW t M N) (T : Ty M) : Ty N := by
  refine ⟨by rw [h.1]; exact T.1, fun f hf a i => ?_, fun a i ha => ?_⟩
  · rw [h.2.1 f a i (fun q => by rw [q.1] at hf; exact absurd hf (by decide))]
    exact T.2.1 f hf a i
  · rw [h.2.1 3 a i (fun q => absurd q.1 (by decide))]
    refine T.2.2 a i ?_
    unfold fm_is at *
    rw [h.1] at ha
    exact ha
theorem frT_ext (h : FrTW t M N) : Ext M N := by
  intro b _
  rw [h.1]
  exact ⟨rfl, rfl⟩
theorem frT_wf (h : FrTW t M N) (n : fm_is M 91 91 t = true) (T : Ty M) (W : Wf M) : Wf N := by
  have W0 := W
  obtain ⟨w1, ⟨w2, w2j⟩, w3, w4⟩ := W
  have hn : M.2.2 0 t 0 ≠ 0 := fm_ist rfl n
  have hn2 : M.2.2 0 (M.2.2 295 t 0) 0 ≠ 0 := fm_ist rfl (tN_295 T.1 n)
  refine ⟨fun a ha f i => ?_, ⟨fun q hq a ha => ?_, fun f a i hf hne => rp_k (M := M) (by rw [h.1]) (by rw [h.1]) (w2j.1 f a i hf (by rw [← h.1]; exact hne)), by rw [h.1]; exact w2j.2⟩, by rw [h.1]; exact w3, by unfold fm_nx; rw [h.1]; exact w4⟩
  · have ha' : fm_nx M ≤ a := by unfold fm_nx at *; rw [h.1] at ha; exact ha
    have hz := w1 a ha'
    rw [h.1, h.2.1 f a i (fun q => hn (by rw [← q.2]; exact (hz 0 0).2.2)), h.2.2 f a i (fun q => q.elim (fun q => hn (by rw [← q.2]; exact (hz 0 0).2.2)) (fun q => hn2 (by rw [← q.2]; exact (hz 0 0).2.2)))]
    exact hz f i
  · unfold fm_is Sf at *
    rw [h.1] at *
    exact w2 q hq a ha
theorem frT_cmb (h : FrTW t M N) (n : fm_is M 91 91 t = true) (R : RamI r M) {i : Nat} (hi : i < 33554432) : cmb N r i = cmb M r i := by
  obtain ⟨T, W, nr, _⟩ := R
  unfold cmb cpg
  rw [h.1]
  by_cases q : M.2.2 3 (M.2.2 203 r 0) (i / 32768) = 0
  · rw [if_pos q, if_pos q]
  · rw [if_neg q, if_neg q]
    have np := cpg_is T nr (k := i / 32768) (by omega) q
    have ne := sf_ne W (sS_201 W np) (sS_295 W n) (lo := 902) rfl (tN_201 T.1 np) (by decide)
    rw [h.2.2 _ _ _ (fun z => z.elim (fun z => absurd z.1 (by decide)) (fun z => ne z.2))]
theorem frT_ram (h : FrTW t M N) (n : fm_is M 91 91 t = true) (R : RamI r M) : RamI r N := by
  obtain ⟨T, W, nr, P⟩ := R
  refine ⟨frT_ty h T, frT_wf h n T W, frT_isW h nr, ?_⟩
  unfold PgI cpg
  rw [h.1]
  exact P
theorem frT_V (h : FrTW t M N) (V : WtC t r g M K rt tb) : WtC t r g N K rt tb := by
  obtain ⟨R, h2, n, hr, hg, vg, fa, ht, hrt⟩ := V
  refine ⟨frT_ram h n R, ?_, frT_isW h n, by rw [h.1]; exact hr, by rw [h.1]; exact hg, fun i hi => ?_, fun i hi => ?_, ?_, ?_⟩
  · rw [h.2.1 _ _ _ (fun q => absurd q.1 (by decide))]
    exact h2
  · obtain ⟨a1, a2, f, t', a3, a4, a5⟩ := vg i hi
    rw [rgn_e h.1, h.2.1 _ _ _ (fun q => absurd q.1 (by decide)), h.2.2 281 _ _ (fun q => by omega), h.2.2 282 _ _ (fun q => by omega), h.2.2 283 _ _ (fun q => by omega)]
    exact ⟨a1, a2, f, t', a3, a4, a5⟩
  · rw [h.1, h.2.1 _ _ _ (fun q => absurd q.1 (by decide)), h.2.1 _ _ _ (fun q => absurd q.1 (by decide))]
    exact fa i hi
  · rw [h.2.2 289 _ _ (fun q => by omega)]
    exact ht
  · rw [h.2.1 _ _ _ (fun q => absurd q.1 (by decide))]
    exact hrt
end Ft
/-- what the component reads, and how it writes -/
noncomputable def ldC (r : Nat) (M : FM) (x : Nat) : Int64 := (GX11_load r (lN x) (Int32.ofInt 8) M).1
noncomputable def wrC (r : Nat) (o : Option (Nat × Int64)) (M : FM) : FM := match o with
  | none => M
  | some q => GX11_store r (lN q.1) (Int32.ofInt 8) q.2 M
section Lc
variable {r : Nat} {M N : FM} {x : Nat}
theorem ldC_e (R : RamI r M) (h : okR x) : HX11_load r (lN x) (Int32.ofInt 8) M ∧ GX11_load r (lN x) (Int32.ofInt 8) M = (ldC r M x, M) := by
  obtain ⟨o, h1, h2⟩ := okR_o h
  obtain ⟨a1, v, a2, a3⟩ := X11_load R.1 R.2.2.1 h1 (sz := Int32.ofInt 8) (s := 8) rfl (by decide) (by decide) h2
  refine ⟨a1, ?_⟩
  unfold ldC
  rw [a2]
theorem ldC_s (R : RamI r M) (RN : RamI r N) (hb : ∀ i, i < 33554432 → cmb N r i = cmb M r i) (h : okR x) : ldC r N x = ldC r M x := by
  obtain ⟨o, h1, h2⟩ := okR_o h
  obtain ⟨_, v, a2, a3⟩ := X11_load R.1 R.2.2.1 h1 (sz := Int32.ofInt 8) (s := 8) rfl (by decide) (by decide) h2
  obtain ⟨_, u, b2, b3⟩ := X11_load RN.1 RN.2.2.1 h1 (sz := Int32.ofInt 8) (s := 8) rfl (by decide) (by decide) h2
  unfold ldC
  rw [a2, b2]
  refine lb_ext fun i hi => ?_
  rw [a3, b3, hb _ (by omega)]
theorem wrC_e (R : RamI r M) (h : okR x) (v : Int64) : HX11_store r (lN x) (Int32.ofInt 8) v M ∧ OkV M (GX11_store r (lN x) (Int32.ofInt 8) v M) := by
  obtain ⟨o, h1, h2⟩ := okR_o h
  obtain ⟨a1, a2, a3⟩ := X11_store R h1 (sz := Int32.ofInt 8) (s := 8) rfl (by decide) (by decide) h2 v
  rw [a2]
  exact ⟨a1, a3.1.1, a3.2.1⟩
theorem X85_has {y : Nat} (hr : M.2.2 247 y 0 = r) (hm : M.1 202 r 0 = Int32.ofInt 1024) (h8 : x % 8 = 0) (hx : x < 2 ^ 57) : GX85_has y (lN x) M = (bz (okR x), M) := by
  unfold GX85_has GX85_has_0 GX85_has_28 GX85_has_29
  have p57 : (2 : Nat) ^ 57 = 144115188075855872 := by decide
  have e : lg_cmp (lN x &&& Int64.ofInt 7) (Int64.ofInt 0) = 0 := by
    rw [cl_eq, ul_and, show ul (Int64.ofInt 7) = 2 ^ 3 - 1 from rfl, Nat.and_two_pow_sub_one_eq_mod, l_big (by omega)]
    show x % 8 = 0
    exact h8
  rw [fi_pos e]
  dsimp only
  rw [hr, X11_has hm (show ul (Int64.ofInt 8) < 1152921504606846976 by decide)]
  dsimp only
  rw [fi_bz]
  exact fi_pr
theorem X85_get {y : Nat} (hr : M.2.2 247 y 0 = r) (R : RamI r M) (h : okR x) : HX85_get y (lN x) M ∧ GX85_get y (lN x) M = (ldC r M x, M) := by
  obtain ⟨a1, a2⟩ := ldC_e R h
  unfold HX85_get HX85_get_0 GX85_get GX85_get_0
  dsimp only
  rw [hr, a2]
  exact ⟨⟨a1, trivial⟩, rfl⟩
end Lc
section St
variable {t r g : Nat} {M X : FM} {K : Rg} {F T : Nat → Nat} {rt ac md : Int32} {a tb e : Int64}
theorem st157_1 : GX84_step_157 t (Int32.ofInt 1) X = (Int32.ofInt (-2), X) := by
  unfold GX84_step_157 GX84_step_196
  exact fi_neg (by decide)
theorem st157_0 (he : X.2.1 293 t 0 = e) : GX84_step_157 t (Int32.ofInt 0) X = (fi (lea e) (Int32.ofInt 1) (Int32.ofInt 0), X) := by
  have b1 := X102_has (M := X) e (k := 1) (by decide)
  have b3 := X102_has (M := X) e (k := 3) (by decide)
  unfold GX84_step_157 GX84_step_191 GX84_step_196 lea
  rw [fi_pos (show Int32.ofInt 0 = 0 from rfl), he, show GX102_has e (Int32.ofInt 1) X = _ from b1]
  dsimp only
  rw [he, show GX102_has e (Int32.ofInt 3) X = _ from b3]
  dsimp only
  rw [fi_bz, fi_bz, fi_or]
  exact (fi_ap (fun z => (z, X))).symm
theorem st_tail (he : X.2.1 293 t 0 = e) : fi ((GX102_has e (Int32.ofInt 0) X).1 = 0) (GX84_step_152 t (GX102_has e (Int32.ofInt 0) X).2)
    (fi ((GX102_has ((GX102_has e (Int32.ofInt 0) X).2.2.1 293 t 0) (Int32.ofInt 2) (GX102_has e (Int32.ofInt 0) X).2).1 = 0) (GX84_step_136 t (GX102_has ((GX102_has e (Int32.ofInt 0) X).2.2.1 293 t 0) (Int32.ofInt 2) (GX102_has e (Int32.ofInt 0) X).2).2)
      (fi ((GX102_has ((GX102_has ((GX102_has e (Int32.ofInt 0) X).2.2.1 293 t 0) (Int32.ofInt 2) (GX102_has e (Int32.ofInt 0) X).2).2.2.1 293 t 0) (Int32.ofInt 1) (GX102_has ((GX102_has e (Int32.ofInt 0) X).2.2.1 293 t 0) (Int32.ofInt 2) (GX102_has e (Int32.ofInt 0) X).2).2).1 = 0)
        (GX84_step_152 t (GX102_has ((GX102_has ((GX102_has e (Int32.ofInt 0) X).2.2.1 293 t 0) (Int32.ofInt 2) (GX102_has e (Int32.ofInt 0) X).2).2.2.1 293 t 0) (Int32.ofInt 1) (GX102_has ((GX102_has e (Int32.ofInt 0) X).2.2.1 293 t 0) (Int32.ofInt 2) (GX102_has e (Int32.ofInt 0) X).2).2).2)
        (GX84_step_136 t (GX102_has ((GX102_has ((GX102_has e (Int32.ofInt 0) X).2.2.1 293 t 0) (Int32.ofInt 2) (GX102_has e (Int32.ofInt 0) X).2).2.2.1 293 t 0) (Int32.ofInt 1) (GX102_has ((GX102_has e (Int32.ofInt 0) X).2.2.1 293 t 0) (Int32.ofInt 2) (GX102_has e (Int32.ofInt 0) X).2).2).2))) =
    (fi (brk e) (Int32.ofInt (-2)) (fi (lea e) (Int32.ofInt 1) (Int32.ofInt 0)), X) := by
  have b0 := X102_has (M := X) e (k := 0) (by decide)
  have b1 := X102_has (M := X) e (k := 1) (by decide)
  have b2 := X102_has (M := X) e (k := 2) (by decide)
  have b5 := X102_bits (M := X) e (k := 54) (n := 10) (by decide) (by decide)
  have e5 : lg_cmp (lN (ul e / 2 ^ 54 % 2 ^ 10)) (Int64.ofInt 0) = 0 ↔ ¬ ul e / 2 ^ 54 ≠ 0 := by
    have := ul_lt e
    have p54 : (2 : Nat) ^ 54 = 18014398509481984 := by decide
    have p10 : (2 : Nat) ^ 10 = 1024 := by decide
    rw [cl_eq, show ul (Int64.ofInt 0) = 0 from rfl, l_big (by omega)]
    omega
  have h136 : GX84_step_136 t X = (fi (ul e / 2 ^ 54 ≠ 0) (Int32.ofInt (-2)) (fi (lea e) (Int32.ofInt 1) (Int32.ofInt 0)), X) := by
    unfold GX84_step_136 GX84_step_152
    rw [he, show GX102_bits e (Int32.ofInt 54) (Int32.ofInt 10) X = _ from b5]
    dsimp only
    rw [propext e5, st157_0 he, st157_1, ← fi_not]
    exact (fi_ap (fun z => (z, X))).symm
  have h152 : GX84_step_152 t X = (Int32.ofInt (-2), X) := st157_1
  rw [show GX102_has e (Int32.ofInt 0) X = _ from b0]
  dsimp only
  rw [he, show GX102_has e (Int32.ofInt 2) X = _ from b2]
  dsimp only
  rw [he, show GX102_has e (Int32.ofInt 1) X = _ from b1]
  dsimp only
  rw [h136, h152, fi_bz, fi_bz, fi_bz]
  unfold brk
  by_cases k0 : lb e 0 = true
  · rw [fi_pos k0]
    by_cases k2 : lb e 2 = true
    · rw [fi_pos k2]
      by_cases k1 : lb e 1 = true
      · rw [fi_pos k1]
        refine congrArg (fun z => (z, X)) (fi_c ⟨fun q => Or.inr (Or.inr q), fun q => ?_⟩)
        rcases q with q | q | q
        · exact absurd k0 q
        · exact absurd k1 q.2
        · exact q
      · rw [fi_neg k1, fi_pos (c := ¬ lb e 0 = true ∨ _) (Or.inr (Or.inl ⟨k2, k1⟩))]
    · rw [fi_neg k2]
      refine congrArg (fun z => (z, X)) (fi_c ⟨fun q => Or.inr (Or.inr q), fun q => ?_⟩)
      rcases q with q | q | q
      · exact absurd k0 q
      · exact absurd q.1 k2
      · exact q
  · rw [fi_neg k0, fi_pos (c := ¬ lb e 0 = true ∨ _) (Or.inl k0)]
theorem eat_8 {A d pg : Nat} : eat A d pg % 8 = 0 := by
  unfold eat
  omega
theorem eat_w {d pg : Nat} (hd : d ≤ 3) (hp : pg < 2 ^ 44) : (lN pg <<< ((Int32.ofInt 12).toInt64 &&& 63)) + Int64.ofInt 8 * lN (ul a / 4096 / 2 ^ (9 * d) % 512) = lN (eat (ul a / 4096) d pg) := by
  have p44 : (2 : Nat) ^ 44 = 17592186044416 := by decide
  apply ul_inj
  rw [show Int64.ofInt 8 = lN 8 from rfl, l_m (by omega) (by omega) (by omega), ul_add, ul_shl, show ui (Int32.ofInt 12) % 64 = 12 from rfl, l_big (n := pg) (by omega), l_big (n := 8 * _) (by omega)]
  unfold eat
  rw [l_big (by omega)]
  omega
theorem bits_d {d : Nat} (hd : d ≤ 3) : GX102_bits a (Int32.ofInt 12 + Int32.ofInt 9 * nI d) (Int32.ofInt 9) M = (lN (ul a / 4096 / 2 ^ (9 * d) % 512), M) := by
  rw [lb_ushr9, show Int32.ofInt 12 + nI (9 * d) = nI (12 + 9 * d) from nI_a, show Int32.ofInt 9 = nI 9 from rfl, X102_bits a (by omega) (by decide), vp a hd]
theorem X84_step (V : WtC t r g M K rt tb) (I : VGi K) (C : covR K F T) {d pg k : Nat} (hd : d ≤ 3) (hp : pg < 2 ^ 44) (hk : k < 4) (h294 : M.1 294 t 0 = nI k) :
    ∃ N, FrTW t M N ∧ HX84_step t (lN pg) a (nI d) M ∧ N.2.1 292 t 0 = lN (eat (ul a / 4096) d pg) ∧
      GX84_step t (lN pg) a (nI d) M = (fi (okLw F T K (eat (ul a / 4096) d pg)) (fi (brk (ldC r M (eat (ul a / 4096) d pg))) (Int32.ofInt (-2)) (fi (lea (ldC r M (eat (ul a / 4096) d pg))) (Int32.ofInt 1) (Int32.ofInt 0))) (Int32.ofInt (-1)), N) ∧
      (¬ okLw F T K (eat (ul a / 4096) d pg) → N.1 294 t 0 = nI k ∧ ∀ j, N.2.1 3 (M.2.2 295 t 0) j = M.2.1 3 (M.2.2 295 t 0) j) ∧
      (okLw F T K (eat (ul a / 4096) d pg) → N.2.1 293 t 0 = ldC r M (eat (ul a / 4096) d pg) ∧ N.1 294 t 0 = nI (k + 1) ∧ ∀ j, N.2.1 3 (M.2.2 295 t 0) j = if j = k then lN (eat (ul a / 4096) d pg) else M.2.1 3 (M.2.2 295 t 0) j) := by
  have hx := eat_lt (A := ul a / 4096) (d := d) hp
  have h8 := eat_8 (A := ul a / 4096) (d := d) (pg := pg)
  unfold HX84_step HX84_step_0 GX84_step GX84_step_0
  rw [bits_d hd]
  dsimp only
  rw [eat_w hd hp]
  generalize eat (ul a / 4096) d pg = x at *
  have f2 : FrTW t M (fm_sL M 292 t 0 (lN x)) := frT_LW (frT_rW t M) (Or.inl rfl)
  have e2 : (fm_sL M 292 t 0 (lN x)).2.1 292 t 0 = lN x := if_pos ⟨rfl, rfl, rfl⟩
  have a2 : ∀ j, (fm_sL M 292 t 0 (lN x)).2.1 3 (M.2.2 295 t 0) j = M.2.1 3 (M.2.2 295 t 0) j := fun j => oL (fun q => absurd q.1 (by decide))
  have i2 : (fm_sL M 292 t 0 (lN x)).1 = M.1 := rfl
  generalize fm_sL M 292 t 0 (lN x) = M2 at *
  have V2 := frT_V f2 V
  obtain ⟨R2, m2, n2, hr2, hg2, vg2, fa2, ht2, hrt2⟩ := V2
  have eh := X85_has hr2 m2 h8 hx
  rw [e2, eh]
  dsimp only
  rw [fi_bz]
  by_cases ok : okR x
  · obtain ⟨l1, l2⟩ := X86_let (ac := Int32.ofInt 1) (md := Int32.ofInt 1) (s := 8) R2.1 (by rw [← hg2]; exact tN_288 R2.1.1 n2) vg2 I C hx (by decide)
    rw [show nI 8 = Int32.ofInt 8 from rfl] at l1 l2
    obtain ⟨g1, g2⟩ := X85_get hr2 R2 ok
    have le : ldC r M2 x = ldC r M x := ldC_s V.1 R2 (fun i hi => frT_cmb f2 V.2.2.1 V.1 hi) ok
    rw [le] at g2
    rw [fi_pos ok, hg2, e2, l2]
    dsimp only
    rw [fi_bz, e2, g2]
    dsimp only
    have e294 : M2.1 294 t 0 = nI k := by rw [i2]; exact h294
    have e3 : M2.2.2 295 t 0 = M.2.2 295 t 0 := by rw [f2.1]
    generalize hE : ldC r M x = e at *
    have k9 : (fm_sL M2 293 t 0 e).1 294 t 0 = nI k := e294
    have k9' : (fm_sL M2 293 t 0 e).2.2 295 t 0 = M.2.2 295 t 0 := e3
    have k9x : (fm_sL M2 293 t 0 e).2.1 292 t 0 = lN x := (oL (fun q => absurd q.1 (by decide))).trans e2
    have f9 : FrTW t M (fm_sL M2 293 t 0 e) := frT_LW f2 (Or.inr rfl)
    have v9 : (fm_sL M2 293 t 0 e).2.1 293 t 0 = e := if_pos ⟨rfl, rfl, rfl⟩
    have a9 : ∀ j, (fm_sL M2 293 t 0 e).2.1 3 (M.2.2 295 t 0) j = M.2.1 3 (M.2.2 295 t 0) j := fun j => (oL (fun q => absurd q.1 (by decide))).trans (a2 j)
    generalize fm_sL M2 293 t 0 e = M9 at *
    rw [k9, k9', k9x, show (nI k).toNatClampNeg = k from o_cl (by omega)]
    have f12 : FrTW t M (fm_sL M9 3 (M.2.2 295 t 0) k (lN x)) := frT_AW f9
    have k12 : (fm_sL M9 3 (M.2.2 295 t 0) k (lN x)).1 294 t 0 = nI k := k9
    have v12 : (fm_sL M9 3 (M.2.2 295 t 0) k (lN x)).2.1 293 t 0 = e := (oL (fun q => absurd q.1 (by decide))).trans v9
    have x12 : (fm_sL M9 3 (M.2.2 295 t 0) k (lN x)).2.1 292 t 0 = lN x := (oL (fun q => absurd q.1 (by decide))).trans k9x
    have a12 : ∀ j, (fm_sL M9 3 (M.2.2 295 t 0) k (lN x)).2.1 3 (M.2.2 295 t 0) j = if j = k then lN x else M.2.1 3 (M.2.2 295 t 0) j := fun j => by
      rw [rL, a9]
      by_cases q : j = k
      · rw [if_pos ⟨rfl, rfl, q⟩, if_pos q]
      · rw [if_neg (fun z => q z.2.2), if_neg q]
    generalize fm_sL M9 3 (M.2.2 295 t 0) k (lN x) = M12 at *
    rw [k12, up_1 (by omega)]
    have f13 : FrTW t M (fm_sI M12 294 t 0 (nI (k + 1))) := frT_IW f12
    have v13 : (fm_sI M12 294 t 0 (nI (k + 1))).2.1 293 t 0 = e := v12
    have x13 : (fm_sI M12 294 t 0 (nI (k + 1))).2.1 292 t 0 = lN x := x12
    have a13 : ∀ j, (fm_sI M12 294 t 0 (nI (k + 1))).2.1 3 (M.2.2 295 t 0) j = if j = k then lN x else M.2.1 3 (M.2.2 295 t 0) j := a12
    have k13 : (fm_sI M12 294 t 0 (nI (k + 1))).1 294 t 0 = nI (k + 1) := if_pos ⟨rfl, rfl, rfl⟩
    generalize fm_sI M12 294 t 0 (nI (k + 1)) = M13 at *
    rw [v13, st_tail v13]
    have in9 : fm_in M9 (M.2.2 295 t 0) (nI k) = true := in_nI (by rw [f9.1]; exact tL_295 V.1.1.1 V.2.2.1) hk (by decide)
    have hH : ((bz (okR x) = 0 → True) ∧ (¬ bz (okR x) = 0 → HX86_let g (lN x) (Int32.ofInt 8) (Int32.ofInt 1) (Int32.ofInt 1) M2 ∧ ((bz (letS F T K.1 x 8 (Int32.ofInt 1) (Int32.ofInt 1) 8 0) = 0 → True) ∧ (¬ bz (letS F T K.1 x 8 (Int32.ofInt 1) (Int32.ofInt 1) 8 0) = 0 → HX85_get (M2.2.2 287 t 0) (lN x) M2 ∧ fm_in M9 (M.2.2 295 t 0) (nI k) = true ∧ True)))) :=
      ⟨fun _ => trivial, fun _ => ⟨l1, fun _ => trivial, fun _ => ⟨g1, in9, trivial⟩⟩⟩
    by_cases hl : letS F T K.1 x 8 (Int32.ofInt 1) (Int32.ofInt 1) 8 0
    · have okl : okLw F T K x := ⟨ok, hl⟩
      rw [fi_pos hl, fi_pos okl]
      exact ⟨M13, f13, hH, x13, rfl, fun q => absurd okl q, fun _ => ⟨v13, k13, a13⟩⟩
    · have okl : ¬ okLw F T K x := fun q => hl q.2
      rw [fi_neg hl, fi_neg okl]
      exact ⟨M2, f2, hH, e2, rfl, fun _ => ⟨e294, a2⟩, fun q => absurd q okl⟩
  · have okl : ¬ okLw F T K x := fun q => ok q.1
    rw [fi_neg ok, fi_neg okl]
    exact ⟨M2, f2, ⟨fun _ => trivial, fun q => absurd (bz_0.mpr ok) q⟩, e2, rfl, fun _ => ⟨by rw [i2]; exact h294, a2⟩, fun q => absurd q okl⟩
theorem mk_c (e : Int64) (ac : Int32) : fi (ac = Int32.ofInt 2) (lg_cmp (e &&& Int64.ofInt 192) (Int64.ofInt 192) = 0) (lg_cmp (e &&& Int64.ofInt 64) (Int64.ofInt 64) = 0) ↔ mkd e ac := by
  have b64 : ∀ i, i < 64 → lb (Int64.ofInt 64) i = decide (i = 6) := by decide
  have b192 : ∀ i, i < 64 → lb (Int64.ofInt 192) i = (decide (i = 6) || decide (i = 7)) := by decide
  unfold mkd
  by_cases h : ac = Int32.ofInt 2
  · rw [fi_pos h, lg_cmp_eq]
    constructor
    · intro q
      have q6 : lb (e &&& Int64.ofInt 192) 6 = lb (Int64.ofInt 192) 6 := by rw [q]
      have q7 : lb (e &&& Int64.ofInt 192) 7 = lb (Int64.ofInt 192) 7 := by rw [q]
      rw [lb_and, b192 6 (by decide)] at q6
      rw [lb_and, b192 7 (by decide)] at q7
      exact ⟨by simpa using q6, fun _ => by simpa using q7⟩
    · intro q
      refine lb_ext fun i hi => ?_
      rw [lb_and, b192 i hi]
      by_cases h6 : i = 6
      · rw [h6, q.1]; rfl
      · by_cases h7 : i = 7
        · rw [h7, q.2 h]; rfl
        · rw [decide_eq_false h6, decide_eq_false h7, Bool.or_false, Bool.and_false]
  · rw [fi_neg h, lg_cmp_eq]
    constructor
    · intro q
      have q6 : lb (e &&& Int64.ofInt 64) 6 = lb (Int64.ofInt 64) 6 := by rw [q]
      rw [lb_and, b64 6 (by decide)] at q6
      exact ⟨by simpa using q6, fun z => absurd z h⟩
    · intro q
      refine lb_ext fun i hi => ?_
      rw [lb_and, b64 i hi]
      by_cases h6 : i = 6
      · rw [h6, q.1]; rfl
      · rw [decide_eq_false h6, Bool.and_false]
theorem X84_last (V : WtC t r g M K rt tb) (I : VGi K) (C : covR K F T) (hac : acc3 ac) {d x : Nat} (hd : d ≤ 3) (hx : x < 2 ^ 57) (ok : okR x) (h292 : M.2.1 292 t 0 = lN x) (h293 : M.2.1 293 t 0 = e) :
    HX84_last t a ac md (nI d) M ∧ GX84_last t a ac md (nI d) M = (wval (lst (okSw F T K) rt ac md (ul a / 4096) x e d) (ul a % 4096), wrC r (lst (okSw F T K) rt ac md (ul a / 4096) x e d).2.1 M) ∧ OkV M (wrC r (lst (okSw F T K) rt ac md (ul a / 4096) x e d).2.1 M) := by
  obtain ⟨R, m2, n, hr, hg, vg, fa, ht, hrt⟩ := V
  obtain ⟨⟨f1, f2⟩, ⟨f3, f4⟩⟩ := X84_fault R.1 n fa hac
  obtain ⟨q1, q2⟩ := p9 hd
  have p44 : (2 : Nat) ^ 44 = 17592186044416 := by decide
  have en := nin_lt e
  obtain ⟨l1, l2⟩ := X86_let (ac := Int32.ofInt 2) (md := Int32.ofInt 1) (s := 8) R.1 (by rw [← hg]; exact tN_288 R.1.1 n) vg I C hx (by decide)
  rw [show nI 8 = Int32.ofInt 8 from rfl] at l1 l2
  have b10 : GX102_bits e (Int32.ofInt 10) (Int32.ofInt 44) M = (lN (nin e), M) := by
    rw [show Int32.ofInt 10 = nI 10 from rfl, show Int32.ofInt 44 = nI 44 from rfl, X102_bits e (by decide) (by decide)]
    rfl
  have b0 : GX102_bits (lN (nin e)) (Int32.ofInt 0) (Int32.ofInt 9 * nI d) M = (lN (nin e % 2 ^ (9 * d)), M) := by
    rw [lb_ushr9, show Int32.ofInt 0 = nI 0 from rfl, X102_bits _ (by decide) (by omega), l_big (by omega), Nat.pow_zero, Nat.div_one]
  have c0 : lg_cmp (lN (nin e % 2 ^ (9 * d))) (Int64.ofInt 0) = 0 ↔ nin e % 2 ^ (9 * d) = 0 := by
    have := Nat.mod_le (nin e) (2 ^ (9 * d))
    rw [cl_eq, l_big (by omega)]
    exact Iff.rfl
  have my := X84_may (M := M) hrt h293 ac md
  have c120 : ∀ X, nin e % 2 ^ (9 * d) = 0 → GX84_last_120 a (nI d) (lN (nin e)) X = (lN (4096 * nin e + 4096 * (ul a / 4096 % 2 ^ (9 * d)) + ul a % 4096), X) := fun X hz => by
    unfold GX84_last_120
    rw [lb_ushr9, show Int32.ofInt 12 + nI (9 * d) = nI (12 + 9 * d) from nI_a, show Int32.ofInt 0 = nI 0 from rfl, X102_bits a (by decide) (by omega)]
    dsimp only
    rw [ph_c a hd en hz]
  have w39 : HX84_last_39 t ac M ∧ GX84_last_39 t ac M = (pgF ac, M) := by
    unfold HX84_last_39 GX84_last_39
    rw [f4]
    exact ⟨⟨f3, trivial⟩, rfl⟩
  have w60 : ∀ s0 : Int64, s0 = mrk ac → (lg_cmp (e &&& s0) s0 = 0 ↔ mkd e ac) → nin e % 2 ^ (9 * d) = 0 → HX84_last_60 t a ac (nI d) (lN (nin e)) s0 M ∧
      GX84_last_60 t a ac (nI d) (lN (nin e)) s0 M = fi (mkd e ac) (lN (4096 * nin e + 4096 * (ul a / 4096 % 2 ^ (9 * d)) + ul a % 4096), M) (fi (okSw F T K x) (lN (4096 * nin e + 4096 * (ul a / 4096 % 2 ^ (9 * d)) + ul a % 4096), GX11_store r (lN x) (Int32.ofInt 8) (e ||| mrk ac) M) (acF ac, M)) := by
    intro s0 hs hk hz
    obtain ⟨s1, _⟩ := wrC_e R ok (e ||| mrk ac)
    unfold HX84_last_60 GX84_last_60 HX85_put HX85_put_0 GX85_put GX85_put_0
    rw [h293, h292]
    dsimp only
    rw [hg, l2]
    dsimp only
    rw [fi_bz, f2, h292, h293, hr, propext hk, hs, c120 _ hz, c120 _ hz]
    exact ⟨⟨fun _ => trivial, fun _ => ⟨l1, fun _ => ⟨f1, trivial⟩, fun _ => ⟨⟨s1, trivial⟩, trivial⟩⟩⟩, rfl⟩
  have hmk := mk_c e ac
  have H : HX84_last t a ac md (nI d) M ∧ GX84_last t a ac md (nI d) M = fi (nin e % 2 ^ (9 * d) = 0) (fi (¬ rfs rt e ac md) (fi (mkd e ac) (lN (4096 * nin e + 4096 * (ul a / 4096 % 2 ^ (9 * d)) + ul a % 4096), M) (fi (okSw F T K x) (lN (4096 * nin e + 4096 * (ul a / 4096 % 2 ^ (9 * d)) + ul a % 4096), GX11_store r (lN x) (Int32.ofInt 8) (e ||| mrk ac) M) (acF ac, M))) (pgF ac, M)) (pgF ac, M) := by
    unfold HX84_last HX84_last_0 GX84_last GX84_last_0
    rw [h293, b10]
    dsimp only
    rw [b0]
    dsimp only
    rw [propext c0, my]
    dsimp only
    rw [fi_bz, w39.2]
    by_cases z : nin e % 2 ^ (9 * d) = 0
    · by_cases q : ac = Int32.ofInt 2
      · have hk : lg_cmp (e &&& Int64.ofInt 192) (Int64.ofInt 192) = 0 ↔ mkd e ac := by rw [fi_pos q] at hmk; exact hmk
        obtain ⟨w1, w2⟩ := w60 (Int64.ofInt 192) (by unfold mrk; rw [fi_pos q]) hk z
        rw [fi_pos q, w2]
        exact ⟨⟨fun _ => ⟨fun _ => w39.1, fun _ => ⟨fun _ => w1, fun q' => absurd q q'⟩⟩, fun _ => w39.1⟩, rfl⟩
      · have hk : lg_cmp (e &&& Int64.ofInt 64) (Int64.ofInt 64) = 0 ↔ mkd e ac := by rw [fi_neg q] at hmk; exact hmk
        obtain ⟨w1, w2⟩ := w60 (Int64.ofInt 64) (by unfold mrk; rw [fi_neg q]) hk z
        rw [fi_neg q, w2]
        exact ⟨⟨fun _ => ⟨fun _ => w39.1, fun _ => ⟨fun q' => absurd q' q, fun _ => w1⟩⟩, fun _ => w39.1⟩, rfl⟩
    · rw [fi_neg z, fi_neg z]
      exact ⟨⟨fun q => absurd q z, fun _ => w39.1⟩, rfl⟩
  refine ⟨H.1, ?_⟩
  rw [H.2]
  unfold lst
  by_cases z : nin e % 2 ^ (9 * d) = 0
  · rw [fi_pos z]
    by_cases k : rfs rt e ac md
    · rw [fi_neg (fun q => q k), fi_neg (fun q => q.2 k)]
      exact ⟨rfl, R.1, ext_r M⟩
    · rw [fi_pos k, fi_pos (show nin e % 2 ^ (9 * d) = 0 ∧ ¬ rfs rt e ac md from ⟨z, k⟩)]
      by_cases y : mkd e ac
      · rw [fi_pos y, fi_pos y]
        exact ⟨rfl, R.1, ext_r M⟩
      · rw [fi_neg y, fi_neg y]
        by_cases o : okSw F T K x
        · rw [fi_pos o, fi_pos o]
          exact ⟨rfl, (wrC_e R ok _).2⟩
        · rw [fi_neg o, fi_neg o]
          exact ⟨rfl, R.1, ext_r M⟩
  · rw [fi_neg z, fi_neg (fun q => z q.1)]
    exact ⟨rfl, R.1, ext_r M⟩
end St
