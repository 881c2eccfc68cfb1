/-! disks: numbers out of memory and into it -/
set_option maxRecDepth 100000
section Nb
variable {x r b c : Nat} {M : FM} {a : Int64}
theorem X19_get (R : RamI r M) (hr : M.2.2 222 x 0 = r) {o : Nat} (ho : ul a = 2147483648 + o) (hb : o < 4194304) :
    HX19_get x a M ∧ ∃ v, GX19_get x a M = (v, M) ∧ ui v < 256 ∧ ∀ i, i < 8 → ib v i = cmb M r (8 * o + i) := by
  obtain ⟨l1, v, l2, l3⟩ := X11_load R.1 R.2.2.1 ho (sz := Int32.ofInt 1) (s := 1) rfl (by decide) (by decide) (show o + 1 ≤ 4194304 by omega)
  unfold HX19_get HX19_get_0 GX19_get GX19_get_0
  dsimp only
  rw [hr, l2]
  have lv : ul v < 256 := Nat.lt_pow_two_of_testBit (n := 8) _ (fun i hi => by
    have := l3 i
    rw [decide_eq_false (by omega), Bool.false_and] at this
    exact this)
  refine ⟨⟨l1, trivial⟩, _, rfl, ?_, fun i hi => ?_⟩
  · show ui v.toInt32 < 256
    rw [ui_low]
    omega
  · show ib v.toInt32 i = _
    rw [ib_low, l3, decide_eq_true (by omega), decide_eq_true (by omega), Bool.true_and, Bool.true_and]
theorem lb_shor (x : Int64) (y : Int32) (h : ui y < 256) (i : Nat) (hi : i < 64) : lb ((x <<< ((Int32.ofInt 8).toInt64 &&& 63)) ||| y.toInt64) i = if i < 8 then ib y i else lb x (i - 8) := by
  rw [lb_or, lb_shl x (Int32.ofInt 8) (k := 8) rfl, lb_sext y i hi]
  by_cases q : i < 8
  · rw [if_pos q, if_pos (by omega), decide_eq_false (show ¬ 8 ≤ i by omega), Bool.and_false, Bool.false_and, Bool.false_or]
  · rw [if_neg q, decide_eq_true hi, decide_eq_true (show 8 ≤ i by omega), Bool.true_and, Bool.true_and]
    have : ib y (if i < 32 then i else 31) = false := by
      unfold ib
      refine tb_big (k := 8) h ?_
      split <;> omega
    rw [this, Bool.or_false]
theorem a_nI {o : Nat} (ho : ul a = 2147483648 + o) {k : Nat} (h : o + k ≤ 4194304) : ul (a + (nI k).toInt64) = 2147483648 + (o + k) := ul_addn ho h
theorem X107_number_L (R : RamI r M) (n : fm_is M 76 76 x = true) (hr : M.2.2 222 x 0 = r) {o s : Nat} (ho : ul a = 2147483648 + o) (h8 : s ≤ 8) (hb : o + s ≤ 4194304) :
    ∀ m j, m < j → m ≤ s → ∀ acc : Int64, (∀ i, lb acc i = (decide (i < 8 * (s - m)) && cmb M r (8 * (o + m) + i))) →
      ∃ v, FX107_number_L8 fN j x a acc (nI m + Int32.ofInt (-1)) M = some (v, M) ∧ ∀ i, lb v i = (decide (i < 8 * s) && cmb M r (8 * o + i)) := by
  intro m
  induction m with
  | zero =>
    intro j hj hm acc ha
    obtain ⟨j, rfl⟩ : ∃ i, j = i + 1 := ⟨j - 1, by omega⟩
    refine ⟨acc, ?_, ha⟩
    show FX107_number_8 fN (FX107_number_L8 fN j) _ _ _ _ _ = _
    rw [(gX107_number_8 _ _ _ _ _ M R.1 n ⟨fun _ => trivial, fun q => absurd dn_0 q⟩).1]
    unfold GX107_number_8
    rw [fi_pos dn_0]
    rfl
  | succ m ih =>
    intro j hj hm acc ha
    obtain ⟨j, rfl⟩ : ∃ i, j = i + 1 := ⟨j - 1, by omega⟩
    show ∃ v, FX107_number_8 fN (FX107_number_L8 fN j) _ _ _ _ _ = _ ∧ _
    obtain ⟨g1, v, g2, g3, g4⟩ := X19_get R hr (a_nI ho (k := m) (by omega)) (by omega)
    rw [dn_k m (by omega)]
    rw [(gX107_number_8 _ _ _ _ _ M R.1 n ⟨fun q => absurd q (dn_n (by omega)), fun _ => ⟨g1, trivial⟩⟩).1]
    unfold GX107_number_8
    rw [fi_neg (dn_n (by omega)), g2]
    refine ih j (by omega) (by omega) _ (fun i => ?_)
    by_cases hi : i < 64
    · rw [lb_shor _ _ g3 i hi]
      split
      · rename_i q
        rw [g4 i q, decide_eq_true (by omega), Bool.true_and]
      · rename_i q
        rw [ha, show 8 * (o + (m + 1)) + (i - 8) = 8 * (o + m) + i from by omega]
        congr 1
        exact decide_eq_decide.mpr (by omega)
    · rw [lb_ge _ (by omega), decide_eq_false (by omega), Bool.false_and]
theorem X107_number (R : RamI r M) (n : fm_is M 76 76 x = true) (hr : M.2.2 222 x 0 = r) {s : Nat} (ha : inR a s) (h8 : s ≤ 8) :
    HX107_number x a (nI s) M ∧ ∃ v, GX107_number x a (nI s) M = (v, M) ∧ ∀ i, lb v i = (decide (i < 8 * s) && cmb M r (8 * (ul a - 2147483648) + i)) := by
  obtain ⟨o, ho⟩ : ∃ o, ul a = 2147483648 + o := ⟨ul a - 2147483648, by unfold inR at ha; omega⟩
  have hb : o + s ≤ 4194304 := by unfold inR at ha; omega
  obtain ⟨v, h, hv⟩ := X107_number_L R n hr ho h8 hb s fN (by unfold fN; omega) (Nat.le_refl _) (Int64.ofInt 0) (fun i => by rw [lb_0, decide_eq_false (by omega), Bool.false_and])
  have e : FX107_number fN x a (nI s) M = some (v, M) := by
    show FX107_number_0 fN (FX107_number_L8 fN fN) x a (nI s) M = _
    rw [(gX107_number_0 (FX107_number_L8 fN fN) x a (nI s) M R.1).1]
    unfold GX107_number_0
    dsimp only
    rw [i_m1]
    exact h
  obtain ⟨h1, h2⟩ := op_of (d := ((0 : Int64), M)) e (P := OkR M) ⟨R.1, ext_r M⟩
  rw [show ul a - 2147483648 = o by omega]
  exact ⟨h1, v, h2, hv⟩
theorem X95_number_L (T : Ty M) (n : fm_is M 93 93 b = true) (nc : fm_is M 98 98 c = true) (hc : M.2.2 326 b 0 = c) {o s : Nat} (ho : ul a = 2147483648 + o) (h8 : s ≤ 8) (hb : o + s ≤ 4194304) :
    ∀ m j, m < j → m ≤ s → ∀ acc : Int64, (∀ i, lb acc i = (decide (i < 8 * (s - m)) && tmb M c (8 * (o + m) + i))) →
      ∃ v, FX95_number_L8 fN j b a acc (nI m + Int32.ofInt (-1)) M = some (v, M) ∧ ∀ i, lb v i = (decide (i < 8 * s) && tmb M c (8 * o + i)) := by
  intro m
  induction m with
  | zero =>
    intro j hj hm acc ha
    obtain ⟨j, rfl⟩ : ∃ i, j = i + 1 := ⟨j - 1, by omega⟩
    refine ⟨acc, ?_, ha⟩
    show FX95_number_8 fN (FX95_number_L8 fN j) _ _ _ _ _ = _
    rw [(gX95_number_8 _ _ _ _ _ M T n ⟨fun _ => trivial, fun q => absurd dn_0 q⟩).1]
    unfold GX95_number_8
    rw [fi_pos dn_0]
    rfl
  | succ m ih =>
    intro j hj hm acc ha
    obtain ⟨j, rfl⟩ : ∃ i, j = i + 1 := ⟨j - 1, by omega⟩
    show ∃ v, FX95_number_8 fN (FX95_number_L8 fN j) _ _ _ _ _ = _ ∧ _
    obtain ⟨g1, v, g2, g3, g4⟩ := X93_get T nc (a_nI ho (k := m) (by omega)) (by omega)
    rw [dn_k m (by omega)]
    rw [(gX95_number_8 _ _ _ _ _ M T n ⟨fun q => absurd q (dn_n (by omega)), fun _ => by dsimp only; rw [hc]; exact ⟨g1, trivial⟩⟩).1]
    unfold GX95_number_8
    rw [fi_neg (dn_n (by omega))]
    dsimp only
    rw [hc, g2]
    refine ih j (by omega) (by omega) _ (fun i => ?_)
    by_cases hi : i < 64
    · rw [lb_256 _ _ g3 i hi]
      split
      · rename_i q
        rw [g4 i q, decide_eq_true (by omega), Bool.true_and]
      · rename_i q
        rw [ha, show 8 * (o + (m + 1)) + (i - 8) = 8 * (o + m) + i from by omega]
        congr 1
        exact decide_eq_decide.mpr (by omega)
    · rw [lb_ge _ (by omega), decide_eq_false (by omega), Bool.false_and]
theorem X95_number (T : Ty M) (n : fm_is M 93 93 b = true) (nc : fm_is M 98 98 c = true) (hc : M.2.2 326 b 0 = c) {s : Nat} (ha : inR a s) (h8 : s ≤ 8) :
    HX95_number b a (nI s) M ∧ ∃ v, GX95_number b a (nI s) M = (v, M) ∧ ∀ i, lb v i = (decide (i < 8 * s) && tmb M c (8 * (ul a - 2147483648) + i)) := by
  obtain ⟨o, ho⟩ : ∃ o, ul a = 2147483648 + o := ⟨ul a - 2147483648, by unfold inR at ha; omega⟩
  have hb : o + s ≤ 4194304 := by unfold inR at ha; omega
  obtain ⟨v, h, hv⟩ := X95_number_L T n nc hc ho h8 hb s fN (by unfold fN; omega) (Nat.le_refl _) (Int64.ofInt 0) (fun i => by rw [lb_0, decide_eq_false (by omega), Bool.false_and])
  have e : FX95_number fN b a (nI s) M = some (v, M) := by
    show FX95_number_0 fN (FX95_number_L8 fN fN) b a (nI s) M = _
    rw [(gX95_number_0 (FX95_number_L8 fN fN) b a (nI s) M T).1]
    unfold GX95_number_0
    dsimp only
    rw [i_m1]
    exact h
  obtain ⟨h1, h2⟩ := op_of (d := ((0 : Int64), M)) e (P := OkR M) ⟨T, ext_r M⟩
  rw [show ul a - 2147483648 = o by omega]
  exact ⟨h1, v, h2, hv⟩
end Nb
/-- the number at a place of the component's memory, of the twin's -/
noncomputable def nuC (x : Nat) (M : FM) (a : Int64) (s : Nat) : Int64 := (GX107_number x a (nI s) M).1
noncomputable def nuT (b : Nat) (M : FM) (a : Int64) (s : Nat) : Int64 := (GX95_number b a (nI s) M).1
section Nr
variable {x r b c : Nat} {M N Mc Mt : FM} {a : Int64} {s : Nat}
theorem nuC_e (R : RamI r M) (n : fm_is M 76 76 x = true) (hr : M.2.2 222 x 0 = r) (ha : inR a s) (h8 : s ≤ 8) : HX107_number x a (nI s) M ∧ GX107_number x a (nI s) M = (nuC x M a s, M) := by
  obtain ⟨h1, v, h2, _⟩ := X107_number R n hr ha h8
  refine ⟨h1, ?_⟩
  unfold nuC
  rw [h2]
theorem nuT_e (T : Ty M) (n : fm_is M 93 93 b = true) (nc : fm_is M 98 98 c = true) (hc : M.2.2 326 b 0 = c) (ha : inR a s) (h8 : s ≤ 8) : HX95_number b a (nI s) M ∧ GX95_number b a (nI s) M = (nuT b M a s, M) := by
  obtain ⟨h1, v, h2, _⟩ := X95_number T n nc hc ha h8
  refine ⟨h1, ?_⟩
  unfold nuT
  rw [h2]
theorem nuC_lt (R : RamI r M) (n : fm_is M 76 76 x = true) (hr : M.2.2 222 x 0 = r) (ha : inR a s) (h8 : s ≤ 8) : ul (nuC x M a s) < 2 ^ (8 * s) := by
  obtain ⟨_, v, h2, h3⟩ := X107_number R n hr ha h8
  unfold nuC
  rw [h2]
  refine Nat.lt_pow_two_of_testBit _ (fun i hi => ?_)
  have := h3 i
  rw [decide_eq_false (by omega), Bool.false_and] at this
  exact this
theorem nuC_s (R : RamI r M) (n : fm_is M 76 76 x = true) (hr : M.2.2 222 x 0 = r) (R' : RamI r N) (n' : fm_is N 76 76 x = true) (hr' : N.2.2 222 x 0 = r) (hb : ∀ i, i < 33554432 → cmb N r i = cmb M r i) (ha : inR a s) (h8 : s ≤ 8) : nuC x N a s = nuC x M a s := by
  obtain ⟨_, v, h2, h3⟩ := X107_number R n hr ha h8
  obtain ⟨_, u, k2, k3⟩ := X107_number R' n' hr' ha h8
  unfold nuC
  rw [h2, k2]
  refine lb_ext fun i hi => ?_
  rw [h3, k3]
  by_cases q : i < 8 * s
  · rw [hb _ (by unfold inR at ha; omega)]
  · rw [decide_eq_false q, Bool.false_and, Bool.false_and]
theorem nuT_s (T : Ty M) (n : fm_is M 93 93 b = true) (nc : fm_is M 98 98 c = true) (hc : M.2.2 326 b 0 = c) (T' : Ty N) (n' : fm_is N 93 93 b = true) (nc' : fm_is N 98 98 c = true) (hc' : N.2.2 326 b 0 = c) (hb : ∀ i, tmb N c i = tmb M c i) (ha : inR a s) (h8 : s ≤ 8) : nuT b N a s = nuT b M a s := by
  obtain ⟨_, v, h2, h3⟩ := X95_number T n nc hc ha h8
  obtain ⟨_, u, k2, k3⟩ := X95_number T' n' nc' hc' ha h8
  unfold nuT
  rw [h2, k2]
  refine lb_ext fun i hi => ?_
  rw [h3, k3, hb]
theorem nu_e (R : RelRam r c Mc Mt) (n : fm_is Mc 76 76 x = true) (hr : Mc.2.2 222 x 0 = r) (nb : fm_is Mt 93 93 b = true) (hc : Mt.2.2 326 b 0 = c) (ha : inR a s) (h8 : s ≤ 8) : nuC x Mc a s = nuT b Mt a s := by
  obtain ⟨_, v, h2, h3⟩ := X107_number R.1 n hr ha h8
  obtain ⟨_, u, k2, k3⟩ := X95_number R.2.1.1 nb R.2.1.2.2.1 hc ha h8
  unfold nuC nuT
  rw [h2, k2]
  refine lb_ext fun i hi => ?_
  rw [h3, k3]
  by_cases q : i < 8 * s
  · rw [R.2.2.2.2.1 _ (by unfold inR at ha; omega)]
  · rw [decide_eq_false q, Bool.false_and, Bool.false_and]
/-- one byte is put on both sides -/
theorem rel_byte (R : RelRam r c Mc Mt) (hr : Mc.2.2 222 x 0 = r) (ha : inR a 1) {v u : Int32} (hv : ∀ i, i < 8 → ib u i = ib v i) :
    HX19_put x a v Mc ∧ HX93_put c a u Mt ∧ RelRam r c (GX19_put x a v Mc) (GX93_put c a u Mt) ∧ Evo r 1 Mc (GX19_put x a v Mc) := by
  obtain ⟨p1, p2, p3, p4⟩ := rel_put R ha (v := v.toInt64) (u := u) (fun i hi => by rw [lb_sext v i (by omega), if_pos (by omega)]; exact hv i hi)
  have ev := evo_st (o := ul a - 2147483648) (s := 1) (by decide) (by decide) (by unfold inR at ha; omega) p4
  unfold HX19_put HX19_put_0 GX19_put GX19_put_0
  dsimp only
  rw [hr]
  exact ⟨⟨p1, trivial⟩, p2, p3, ev⟩
end Nr
