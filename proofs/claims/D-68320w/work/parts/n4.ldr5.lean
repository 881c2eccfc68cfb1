/-! images: a segment is put, both sides -/
set_option maxRecDepth 100000
section Lk
variable {l m n : Nat} {M N : FM} {X : Nat → Nat} {S Z : Nat → Prop} {hx : Nat}
def LFr (S : Nat → Prop) : Prop := ¬ S 262 ∧ ¬ S 186 ∧ ¬ S 187 ∧ ¬ S 261 ∧ ¬ S 202 ∧ ¬ S 1261
/-- the loader's view stays where others write -/
theorem ldV_k (k : Wk S Z hx (fm_nx M) M N) (hS : LFr S) (TN : Ty N) (W : Wf M) (V : LdV l M X n) : LdV l N X n ∧ N.2.2 187 l 0 = M.2.2 187 l 0 := by
  obtain ⟨s1, s2, s3, s4, s5, s6⟩ := hS
  obtain ⟨T, nl, ⟨v1, v2, v3, v4⟩, v5, v6⟩ := V
  have ll := wf_lt W (fm_ist rfl nl)
  have lr := wf_lt W (fm_ist rfl v1)
  have nr := tN_187 T.1 nl
  have lq := wf_lt W (fm_ist rfl nr)
  have nb := tN_261 T.1 v1
  have lb_ := wf_lt W (fm_ist rfl nb)
  have e186 := congrFun (kf (f := 186) k rfl s2 ll).2.2 0
  have e187 := congrFun (kf (f := 187) k rfl s3 ll).2.2 0
  have e261 := congrFun (kf (f := 261) k rfl s4 lr).2.2 0
  have sf : Sf M (M.2.2 261 (M.2.2 186 l 0) 0) 261 := sS_261 W v1
  refine ⟨⟨TN, kis k W rfl nl, ⟨?_, ?_, ?_, fun j hj => ?_⟩, v5, ?_⟩, e187⟩
  · rw [e186]; exact kis k W rfl v1
  · rw [e186, e261, congrFun (kt k lb_).2 0]; exact v2
  · rw [e186, congrFun (kf (f := 262) k rfl s1 lr).1 0]; exact v3
  · rw [e186, e261, congrFun (ka k sf (wf_n0 W (fm_ist rfl nb)) s6 lb_).1 j]; exact v4 j hj
  · rw [e187, congrFun (kf (f := 202) k rfl s5 lq).1 0]; exact v6
def MFr (S : Nat → Prop) : Prop := ¬ S 309 ∧ ¬ S 308 ∧ ¬ S 298 ∧ ¬ S 1308
theorem ltV_k (k : Wk S Z hx (fm_nx M) M N) (hS : MFr S) (TN : Ty N) (W : Wf M) (V : LtV m M X n) : LtV m N X n ∧ N.2.2 298 m 0 = M.2.2 298 m 0 := by
  obtain ⟨s1, s2, s3, s4⟩ := hS
  obtain ⟨T, ⟨v1, v2, v3⟩, v4⟩ := V
  have ll := wf_lt W (fm_ist rfl v1)
  have nb := tN_308 T.1 v1
  have lb_ := wf_lt W (fm_ist rfl nb)
  have e308 := congrFun (kf (f := 308) k rfl s2 ll).2.2 0
  refine ⟨⟨TN, ⟨kis k W rfl v1, ?_, fun j hj => ?_⟩, v4⟩, congrFun (kf (f := 298) k rfl s3 ll).2.2 0⟩
  · rw [congrFun (kf (f := 309) k rfl s1 ll).1 0]; exact v2
  · rw [e308, congrFun (ka k (sS_308 W v1) (wf_n0 W (fm_ist rfl nb)) s4 lb_).1 j]; exact v3 j hj
end Lk
/-- both sides, for loading -/
def RelLd (l m r c : Nat) (Mc Mt : FM) (X : Nat → Nat) (n : Nat) : Prop := RelRam r c Mc Mt ∧ LdV l Mc X n ∧ Mc.2.2 187 l 0 = r ∧ LtV m Mt X n ∧ Mt.2.2 298 m 0 = c
section Lp
variable {l m r c n : Nat} {Mc Mt : FM} {X : Nat → Nat}
theorem by_l {x : Nat} (hx : x < 256) : ∀ i, i < 8 → ib (nI x) i = lb (nI x).toInt64 i := fun i hi => by
  rw [o_64 (by omega)]
  unfold ib lb
  rw [ui_nI, ul_lN, Nat.mod_eq_of_lt (by omega), Nat.mod_eq_of_lt (by omega)]
/-- a byte is put on both sides -/
theorem ld_put (R : RelLd l m r c Mc Mt X n) {a : Int64} (hr : inR a 1) {x : Nat} (hx : x < 256) :
    HX11_store r a (Int32.ofInt 1) (nI x).toInt64 Mc ∧ HX93_put c a (nI x) Mt ∧ RelLd l m r c (GX11_store r a (Int32.ofInt 1) (nI x).toInt64 Mc) (GX93_put c a (nI x) Mt) X n ∧ Evo r 1 Mc (GX11_store r a (Int32.ofInt 1) (nI x).toInt64 Mc) ∧ Ext Mc (GX11_store r a (Int32.ofInt 1) (nI x).toInt64 Mc) ∧ Ext Mt (GX93_put c a (nI x) Mt) := by
  obtain ⟨R1, R2, R3, R4, R5⟩ := R
  obtain ⟨p1, p2, p3, p4⟩ := rel_put R1 hr (by_l hx)
  have W := R1.1.2.1
  have Wt := R1.2.1.2.1
  have g1 := gX11_store r a (Int32.ofInt 1) (nI x).toInt64 Mc R1.1.1 R1.1.2.2.1 p1
  have g2 := gX93_put c a (nI x) Mt p2
  have k1 := wX11_store (fun x => fe_mem lX11_store x = true) (fun _ => True) (fun _ h => h) fN r a (Int32.ofInt 1) (nI x).toInt64 Mc (wi_N W) trivial _ g1.1
  have k2 := wX93_put (fun x => fe_mem lX93_put x = true) (fun _ => True) (fun _ h => h) fN c a (nI x) Mt (wi_N Wt) trivial _ g2.1
  obtain ⟨a1, a2⟩ := ldV_k k1 (by unfold LFr; decide) g1.2.1 W R2
  obtain ⟨b1, b2⟩ := ltV_k k2 (by unfold MFr; decide) g2.2.1 Wt R4
  refine ⟨p1, p2, ⟨p3, a1, a2.trans R3, b1, b2.trans R5⟩, ?_, g1.2.2, g2.2.2⟩
  exact evo_st (h1 := Nat.le_refl 1) (h8 := by decide) (hb := by unfold inR at hr; omega) p4
theorem a_i {a : Int64} {i sz : Nat} (ha : inR a sz) (hi : i < sz) : inR (a + lN i) 1 ∧ ul (a + lN i) = ul a + i := by
  unfold inR at ha ⊢
  have e : ul (a + lN i) = ul a + i := by
    rw [ul_add, ul_lN]
    omega
  rw [e]
  omega
/-- what stands on the tape is put -/
theorem sg_p {b2 b3 p : Int32} {a : Int64} {o fl sz : Nat} (ha : inR a sz) (hf : fl ≤ sz) (ho : o + fl ≤ n) : ∀ r' i Mc Mt, i + r' = fl → RelLd l m r c Mc Mt X n →
    ∃ Mc' Mt', (∀ j, FX90_put_L54 fN (j + r') l (lN o) a (lN fl) (lN sz) (lN i) Mc = FX90_put_L54 fN j l (lN o) a (lN fl) (lN sz) (lN fl) Mc') ∧
      (∀ j, (FX92_loadImage_L fN (j + r')).2 m b2 b3 p (nI o) a (lN fl) (lN sz) (lN i) Mt = (FX92_loadImage_L fN j).2 m b2 b3 p (nI o) a (lN fl) (lN sz) (lN fl) Mt') ∧ RelLd l m r c Mc' Mt' X n ∧ Evo r r' Mc Mc' ∧ Ext Mc Mc' ∧ Ext Mt Mt' := by
  intro r'
  induction r' with
  | zero =>
    intro i Mc Mt hi R
    have e : i = fl := by omega
    rw [e]
    exact ⟨Mc, Mt, fun _ => rfl, fun _ => rfl, R, evo_r r 0 Mc, ext_r _, ext_r _⟩
  | succ r' ih =>
    intro i Mc Mt hi R
    have hn : n ≤ 65536 := R.2.1.2.2.2.1.2
    have hsz : sz ≤ 4194304 := by unfold inR at ha; omega
    obtain ⟨i1, i2⟩ := a_i ha (show i < sz by omega)
    have hx := R.2.1.2.2.2.1.1 (o + i)
    obtain ⟨p1, p2, p3, p4, p5, p6⟩ := ld_put R i1 hx
    obtain ⟨t1, t2⟩ := tp_get R.2.1.2.2.1 R.2.1.2.2.2.1.1 (k := o + i) (by omega)
    have c1 : ¬ 0 ≤ lg_cmp (lN i) (lN fl) := fun z => by
      have := (o_ge (by omega) (by omega)).mp z
      omega
    have c2 : ¬ 0 ≤ lg_cmp (lN i) (lN sz) := fun z => by
      have := (o_ge (by omega) (by omega)).mp z
      omega
    have e1 : (lN o + lN i).toInt32 = nI (o + i) := by rw [o_add (by omega) (by omega), o_32 (by omega)]
    have e2 : lN i + Int64.ofInt 1 = lN (i + 1) := o_add (k := 1) (by omega) (by decide)
    have e3 : nI o + (lN i).toInt32 = nI (o + i) := by rw [o_32 (by omega), nI_a]
    obtain ⟨Mc', Mt', h1, h2, h3, h4, h5, h6⟩ := ih (i + 1) _ _ (by omega) p3
    refine ⟨Mc', Mt', fun j => ?_, fun j => ?_, h3, ?_, ext_tr p5 h5, ext_tr p6 h6⟩
    · have H : HX90_put_54 l (lN o) a (lN fl) (lN sz) (lN i) Mc := by
        unfold HX90_put_54
        dsimp only
        rw [e1, t2, R.2.2.1]
        exact ⟨fun z => absurd z c1, fun _ => ⟨t1, p1, trivial⟩⟩
      show FX90_put_54 fN (FX90_put_L54 fN (j + r')) l (lN o) a (lN fl) (lN sz) (lN i) Mc = _
      rw [(gX90_put_54 (FX90_put_L54 fN (j + r')) l (lN o) a (lN fl) (lN sz) (lN i) Mc R.2.1.1 R.2.1.2.1 H).1]
      unfold GX90_put_54
      dsimp only
      rw [fi_neg c1, e1, t2, R.2.2.1, e2]
      exact h1 j
    · have iT : fm_in Mt (Mt.2.2 308 m 0) (nI (o + i)) = true := in_nI (tL_308 R.2.2.2.1.1.1 R.2.2.2.1.2.1.1) (by omega) (by decide)
      have vx : Mt.1 3 (Mt.2.2 308 m 0) (nI (o + i)).toNatClampNeg = nI (X (o + i)) := by
        rw [o_cl (by omega)]
        exact R.2.2.2.1.2.1.2.2 _ (by omega)
      have H : HX92_loadImage_116 m b2 b3 p (nI o) a (lN fl) (lN sz) (lN i) Mt := by
        unfold HX92_loadImage_116 HX92_loadImage_156
        dsimp only
        rw [e3, vx, R.2.2.2.2]
        exact ⟨fun z => absurd z c2, fun _ => ⟨fun z => absurd z c1, fun _ => ⟨iT, p2, trivial⟩⟩⟩
      show FX92_loadImage_116 fN (FX92_loadImage_L fN (j + r')).1 (FX92_loadImage_L fN (j + r')).2 m b2 b3 p (nI o) a (lN fl) (lN sz) (lN i) Mt = _
      rw [(gX92_loadImage_116 (FX92_loadImage_L fN (j + r')).1 (FX92_loadImage_L fN (j + r')).2 m b2 b3 p (nI o) a (lN fl) (lN sz) (lN i) Mt R.2.2.2.1.1 R.2.2.2.1.2.1.1 H).1]
      unfold GX92_loadImage_116 GX92_loadImage_156
      dsimp only
      rw [fi_neg c2, fi_neg c1, e3, vx, R.2.2.2.2, e2]
      exact h2 j
    · rw [Nat.add_comm]
      exact evo_t p4 h4
theorem pbM_1 {M : FM} {a : Int64} {o f b i : Nat} {v : Int32} (h : ¬ (f = 3 ∧ b = M.2.2 391 c 0)) : (pbM c a o v M).1 f b i = M.1 f b i := by
  show (if f = 3 ∧ b = M.2.2 391 c 0 ∧ i = o / 8 then _ else _) = _
  rw [if_neg (fun z => h ⟨z.1, z.2.1⟩)]
  rfl
theorem zpM_1 {M : FM} {a : Int64} {o s f b i : Nat} (h : ¬ (f = 3 ∧ b = M.2.2 391 c 0)) : ∀ k, (zpM c a o s k M).1 f b i = M.1 f b i
  | 0 => rfl
  | k + 1 => (pbM_1 (M := zpM c a o s k M) (by rw [zpM_R]; exact h)).trans (zpM_1 h k)
theorem zp_V {M : FM} {a : Int64} {o s k : Nat} (V : LtV m M X n) (I : TrI c M) (ho : ul a = 2147483648 + o) (hb : o + (s + k) ≤ 4194304) : LtV m (zpM c a o s k M) X n := by
  obtain ⟨T, ⟨v1, v2, v3⟩, v4⟩ := V
  have ne : M.2.2 308 m 0 ≠ M.2.2 391 c 0 := sf_ne I.2.1 (sS_308 I.2.1 v1) (sS_391 I.2.1 I.2.2.1) (lo := 901) rfl (tN_308 T.1 v1) (by decide)
  refine ⟨(zpM_tri I ho k hb).1.1, ⟨by rw [fm_is, zpM_R]; exact v1, ?_, fun j hj => ?_⟩, v4⟩
  · rw [zpM_1 (fun z => absurd z.1 (by decide))]
    exact v2
  · rw [zpM_R, zpM_1 (fun z => ne z.2)]
    exact v3 j hj
/-- the twin puts zeros behind what stood on the tape -/
theorem tz_L {b2 b3 p : Int32} {a : Int64} {o fl sz off : Nat} (V : LtV m Mt X n) (I : TrI c Mt) (hc : Mt.2.2 298 m 0 = c) (ha : ul a = 2147483648 + off) (hb : off + sz ≤ 4194304) : ∀ r' i, i + r' = sz → fl ≤ i → ∀ j,
    (FX92_loadImage_L fN (j + r')).2 m b2 b3 p (nI o) a (lN fl) (lN sz) (lN i) (zpM c a off fl (i - fl) Mt) = (FX92_loadImage_L fN j).2 m b2 b3 p (nI o) a (lN fl) (lN sz) (lN sz) (zpM c a off fl (sz - fl) Mt) := by
  intro r'
  induction r' with
  | zero =>
    intro i hi hfl j
    rw [show i = sz by omega]
    rfl
  | succ r' ih =>
    intro i hi hfl j
    have c1 : 0 ≤ lg_cmp (lN i) (lN fl) := (o_ge (by omega) (by omega)).mpr hfl
    have c2 : ¬ 0 ≤ lg_cmp (lN i) (lN sz) := fun z => by
      have := (o_ge (by omega) (by omega)).mp z
      omega
    have V' := zp_V (s := fl) (k := i - fl) V I ha (by omega)
    have I' := (zpM_tri (s := fl) I ha (i - fl) (by omega)).1
    have ua : ul (a + lN i) = 2147483648 + (off + i) := ul_ln ha (by omega)
    obtain ⟨p1, p2⟩ := X93_put (c := c) (M := zpM c a off fl (i - fl) Mt) I'.1 I'.2.2.1 ua (by omega) (Int32.ofInt 0)
    have hc' : (zpM c a off fl (i - fl) Mt).2.2 298 m 0 = c := by rw [zpM_R]; exact hc
    have e2 : lN i + Int64.ofInt 1 = lN (i + 1) := o_add (k := 1) (by omega) (by decide)
    have es : zpM c a off fl (i + 1 - fl) Mt = pbM c (a + lN i) (off + i) (Int32.ofInt 0) (zpM c a off fl (i - fl) Mt) := by
      rw [show i + 1 - fl = (i - fl) + 1 by omega]
      show pbM c (a + lN (fl + (i - fl))) (off + (fl + (i - fl))) _ _ = _
      rw [show fl + (i - fl) = i by omega]
    have H : HX92_loadImage_116 m b2 b3 p (nI o) a (lN fl) (lN sz) (lN i) (zpM c a off fl (i - fl) Mt) := by
      unfold HX92_loadImage_116 HX92_loadImage_156
      rw [hc']
      exact ⟨fun z => absurd z c2, fun _ => ⟨fun _ => ⟨p1, trivial⟩, fun z => absurd c1 z⟩⟩
    show FX92_loadImage_116 fN (FX92_loadImage_L fN (j + r')).1 (FX92_loadImage_L fN (j + r')).2 m b2 b3 p (nI o) a (lN fl) (lN sz) (lN i) (zpM c a off fl (i - fl) Mt) = _
    rw [(gX92_loadImage_116 (FX92_loadImage_L fN (j + r')).1 (FX92_loadImage_L fN (j + r')).2 m b2 b3 p (nI o) a (lN fl) (lN sz) (lN i) (zpM c a off fl (i - fl) Mt) V'.1 V'.2.1.1 H).1]
    unfold GX92_loadImage_116 GX92_loadImage_156
    dsimp only
    rw [fi_neg c2, fi_pos c1, hc', p2, ← es, e2]
    exact ih (i + 1) (by omega) (by omega) j
/-- the twin is through with a part -/
theorem td_1 {b2 b3 p : Int32} {a : Int64} {o fl sz : Nat} {M : FM} (V : LtV m M X n) (hs : sz ≤ 4194304) (j : Nat) : (FX92_loadImage_L fN (j + 1)).2 m b2 b3 p (nI o) a (lN fl) (lN sz) (lN sz) M = (FX92_loadImage_L fN j).1 m b2 b3 (p + Int32.ofInt 56) M := by
  have c2 : 0 ≤ lg_cmp (lN sz) (lN sz) := (o_ge (by omega) (by omega)).mpr (Nat.le_refl _)
  show FX92_loadImage_116 fN (FX92_loadImage_L fN j).1 (FX92_loadImage_L fN j).2 m b2 b3 p (nI o) a (lN fl) (lN sz) (lN sz) M = _
  rw [(gX92_loadImage_116 (FX92_loadImage_L fN j).1 (FX92_loadImage_L fN j).2 m b2 b3 p (nI o) a (lN fl) (lN sz) (lN sz) M V.1 V.2.1.1 ⟨fun _ => trivial, fun z => absurd c2 z⟩).1]
  unfold GX92_loadImage_116
  dsimp only
  rw [fi_pos c2]
  rfl
/-- a segment, from its numbers -/
theorem sg_all {b2 b3 p : Int32} {a : Int64} {o fl sz : Nat} (R : RelLd l m r c Mc Mt X n) (hz : sz = 0 ∨ inR a sz) (hf : fl ≤ sz) (ho : o + fl ≤ n) :
    ∃ Nc Nt, (∀ j, FX90_put_L54 fN (j + fl + 1) l (lN o) a (lN fl) (lN sz) (lN 0) Mc = some Nc) ∧ (∀ j, (FX92_loadImage_L fN (j + 1 + sz)).2 m b2 b3 p (nI o) a (lN fl) (lN sz) (lN 0) Mt = (FX92_loadImage_L fN j).1 m b2 b3 (p + Int32.ofInt 56) Nt) ∧ RelLd l m r c Nc Nt X n ∧ Evo r 8388608 Mc Nc ∧ Ext Mc Nc ∧ Ext Mt Nt := by
  have cf : ∀ sz, sz ≤ 4194304 → fl ≤ sz → (lg_cmp (lN sz) (lN fl) ≤ 0 ↔ sz ≤ fl) := fun sz h h2 => o_le (by omega) (by omega)
  rcases hz with hz | ha
  · have f0 : fl = 0 := by omega
    rw [hz, f0]
    have c1 : 0 ≤ lg_cmp (lN 0) (lN 0) := (o_ge (by decide) (by decide)).mpr (Nat.le_refl _)
    have c2 : lg_cmp (lN 0) (lN 0) ≤ 0 := (o_le (by decide) (by decide)).mpr (Nat.le_refl _)
    refine ⟨Mc, Mt, fun j => ?_, fun j => td_1 R.2.2.2.1 (by decide) j, R, evo_w (evo_r r 0 Mc) (Nat.zero_le _), ext_r _, ext_r _⟩
    show FX90_put_54 fN (FX90_put_L54 fN (j + 0)) l (lN o) a (lN 0) (lN 0) (lN 0) Mc = _
    rw [(gX90_put_54 (FX90_put_L54 fN (j + 0)) l (lN o) a (lN 0) (lN 0) (lN 0) Mc R.2.1.1 R.2.1.2.1 ⟨fun _ => ⟨fun _ => trivial, fun z => absurd c2 z⟩, fun z => absurd c1 z⟩).1]
    unfold GX90_put_54 GX90_put_123
    dsimp only
    rw [fi_pos c1, fi_pos c2]
    rfl
  · have hsz : sz ≤ 4194304 := by unfold inR at ha; omega
    have hn : n ≤ 65536 := R.2.1.2.2.2.1.2
    obtain ⟨off, ho2⟩ : ∃ off, ul a = 2147483648 + off := ⟨ul a - 2147483648, by unfold inR at ha; omega⟩
    have hb : off + sz ≤ 4194304 := by unfold inR at ha; omega
    obtain ⟨M1, T1, h1, h2, R1, h4, h5, h6⟩ := sg_p (b2 := b2) (b3 := b3) (p := p) ha hf ho fl 0 Mc Mt (by omega) R
    have c1 : 0 ≤ lg_cmp (lN fl) (lN fl) := (o_ge (by omega) (by omega)).mpr (Nat.le_refl _)
    have hev : fl ≤ 65536 := by omega
    by_cases e : sz = fl
    · have c2 : lg_cmp (lN sz) (lN fl) ≤ 0 := (cf sz hsz hf).mpr (by omega)
      refine ⟨M1, T1, fun j => ?_, fun j => ?_, R1, evo_w h4 (by omega), h5, h6⟩
      · rw [show j + fl + 1 = (j + 1) + fl by omega, h1 (j + 1)]
        show FX90_put_54 fN (FX90_put_L54 fN j) l (lN o) a (lN fl) (lN sz) (lN fl) M1 = _
        rw [(gX90_put_54 (FX90_put_L54 fN j) l (lN o) a (lN fl) (lN sz) (lN fl) M1 R1.2.1.1 R1.2.1.2.1 ⟨fun _ => ⟨fun _ => trivial, fun z => absurd c2 z⟩, fun z => absurd c1 z⟩).1]
        unfold GX90_put_54 GX90_put_123
        dsimp only
        rw [fi_pos c1, fi_pos c2]
        rfl
      · rw [show j + 1 + sz = (j + 1) + fl by omega, h2 (j + 1), e]
        exact td_1 R1.2.2.2.1 (by omega) j
    · have c2 : ¬ lg_cmp (lN sz) (lN fl) ≤ 0 := fun z => by
        have := (cf sz hsz hf).mp z
        omega
      obtain ⟨f1, Nc, f2, f3, f4, f5⟩ := rel_fill (s := fl) (n := sz - fl) R1.1 ho2 (by omega) (by omega)
      rw [show fl + (sz - fl) = sz by omega] at f1 f2
      have gf := gX11_fill r (a + lN fl) (a + lN sz) (Int32.ofInt 0) M1 f1
      rw [f2] at gf
      have k1 := wX11_fill (fun x => fe_mem lX11_fill x = true) (fun _ => True) (fun _ h => h) fN r (a + lN fl) (a + lN sz) (Int32.ofInt 0) M1 (wi_N R1.1.1.2.1) trivial _ gf.1
      obtain ⟨a1, a2⟩ := ldV_k k1 (by unfold LFr; decide) gf.2.1 R1.1.1.2.1 R1.2.1
      have b1 := zp_V (s := fl) (k := sz - fl) R1.2.2.2.1 R1.1.2.1 ho2 (by omega)
      refine ⟨Nc, zpM c a off fl (sz - fl) T1, fun j => ?_, fun j => ?_, ⟨f3, a1, a2.trans R1.2.2.1, b1, by rw [zpM_R]; exact R1.2.2.2.2⟩, evo_w (evo_t h4 f4) (by omega), ext_tr h5 f5, ext_tr h6 (fun b _ => by rw [zpM_R]; exact ⟨rfl, rfl⟩)⟩
      · rw [show j + fl + 1 = (j + 1) + fl by omega, h1 (j + 1)]
        have H : HX90_put_54 l (lN o) a (lN fl) (lN sz) (lN fl) M1 := by
          unfold HX90_put_54
          dsimp only
          rw [R1.2.2.1]
          exact ⟨fun _ => ⟨fun z => absurd z c2, fun _ => ⟨f1, trivial⟩⟩, fun z => absurd c1 z⟩
        show FX90_put_54 fN (FX90_put_L54 fN j) l (lN o) a (lN fl) (lN sz) (lN fl) M1 = _
        rw [(gX90_put_54 (FX90_put_L54 fN j) l (lN o) a (lN fl) (lN sz) (lN fl) M1 R1.2.1.1 R1.2.1.2.1 H).1]
        unfold GX90_put_54 GX90_put_123
        dsimp only
        rw [fi_pos c1, fi_neg c2, R1.2.2.1, f2]
        rfl
      · rw [show j + 1 + sz = ((j + 1) + (sz - fl)) + fl by omega, h2]
        have t := tz_L (b2 := b2) (b3 := b3) (p := p) (o := o) (fl := fl) (sz := sz) R1.2.2.2.1 R1.1.2.1 R1.2.2.2.2 ho2 hb (sz - fl) fl (by omega) (Nat.le_refl _) (j + 1)
        rw [Nat.sub_self] at t
        refine Eq.trans t ?_
        exact td_1 b1 hsz j
end Lp
