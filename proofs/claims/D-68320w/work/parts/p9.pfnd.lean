/-! a processor against the twin's: what stays; finding an address -/
set_option maxRecDepth 100000
/-- a processor as it is made -/
def StPr (p h bd a fu u t hv kp fd : Nat) (M : FM) : Prop := fm_is M 75 75 p = true ∧ M.1 209 p 0 = nI h ∧ M.2.2 210 p 0 = bd ∧ M.2.2 211 p 0 = a ∧ M.2.2 212 p 0 = fu ∧ M.2.2 213 p 0 = u ∧ M.2.2 214 p 0 = t ∧ M.2.2 215 p 0 = hv ∧ M.2.2 216 p 0 = kp ∧ M.2.2 217 p 0 = fd
def uPr : List Nat := [209, 210, 211, 212, 213, 214, 215, 216, 217]
/-- its place in the twin's rows -/
def StQ (m h np c1 f1 d1 w1 hq : Nat) (M : FM) : Prop := fm_is M 92 92 m = true ∧ h < np ∧ np ≤ 4 ∧ M.2.2 299 m 0 = hq ∧
  (M.2.2 1 (M.2.2 303 m 0) 0 = 4 ∧ M.2.2 3 (M.2.2 303 m 0) h = c1) ∧ (M.2.2 1 (M.2.2 304 m 0) 0 = 4 ∧ M.2.2 3 (M.2.2 304 m 0) h = f1) ∧
  (M.2.2 1 (M.2.2 305 m 0) 0 = 4 ∧ M.2.2 3 (M.2.2 305 m 0) h = d1) ∧ (M.2.2 1 (M.2.2 306 m 0) 0 = 4 ∧ M.2.2 3 (M.2.2 306 m 0) h = w1) ∧ M.2.2 1 (M.2.2 307 m 0) 0 = 4
def uQ : List Nat := [299, 303, 304, 305, 306, 307, 1303, 1304, 1305, 1306]
/-- rights as the status has them -/
noncomputable def rtS (x : Int64) : Int32 := (x >>> ((Int32.ofInt 18).toInt64 &&& 63)).toInt32 &&& Int32.ofInt 3
/-- the walks, where the twin's was told the table and the rights -/
def RelT (t r g w c : Nat) (B Vv : Nat) (K : Rg) (F T : Nat → Nat) (rt : Int32) (tb : Int64) (Mc Mt : FM) : Prop :=
  (∃ rt' tb', WtC t r g Mc K rt' tb') ∧ WtV w c Mt K rt tb ∧ VGi K ∧ covR K F T ∧ StK t Mc ∧ ∀ j, j < 64 → KeC t r g B Vv Mc K F T j
section Pf
variable {p h bd a fu u t hv kp fd m np c1 f1 d1 w1 hq r g cr B Vv s e : Nat} {kn : Int32} {S S' : List Nat} {M N Mc Nc Mt Nt : FM} {K : Rg} {F T : Nat → Nat} {ad : Int64} {ac md rt : Int32} {tb : Int64}
theorem stPr_k (k : WK S M N) (hd : dj uPr S = true) (W : Wf M) (V : StPr p h bd a fu u t hv kp fd M) : StPr p h bd a fu u t hv kp fd N := by
  obtain ⟨n, v0, v1, v2, v3, v4, v5, v6, v7, v8⟩ := V
  have lp := wf_lt W (fm_ist rfl n)
  have e := fun (f : Nat) (hf : Nat.ble 4 f = true) (hl : fe_mem uPr f = true) => kf (f := f) k hf (dj_n hd f hl) lp
  exact ⟨kis k W rfl n, (congrFun (e 209 rfl rfl).1 0).trans v0, (congrFun (e 210 rfl rfl).2.2 0).trans v1, (congrFun (e 211 rfl rfl).2.2 0).trans v2, (congrFun (e 212 rfl rfl).2.2 0).trans v3, (congrFun (e 213 rfl rfl).2.2 0).trans v4,
    (congrFun (e 214 rfl rfl).2.2 0).trans v5, (congrFun (e 215 rfl rfl).2.2 0).trans v6, (congrFun (e 216 rfl rfl).2.2 0).trans v7, (congrFun (e 217 rfl rfl).2.2 0).trans v8⟩
theorem stQ_k (k : WK S M N) (hd : dj uQ S = true) (T : Ty M) (W : Wf M) (V : StQ m h np c1 f1 d1 w1 hq M) : StQ m h np c1 f1 d1 w1 hq N := by
  obtain ⟨n, v0, v1, v2, ⟨v3, v4⟩, ⟨v5, v6⟩, ⟨v7, v8⟩, ⟨v9, va⟩, vb⟩ := V
  have lm := wf_lt W (fm_ist rfl n)
  have e := fun (f : Nat) (hf : Nat.ble 4 f = true) (hl : fe_mem uQ f = true) => congrFun (kf (f := f) k hf (dj_n hd f hl) lm).2.2 0
  have n3 := tN_303 T.1 n
  have n4 := tN_304 T.1 n
  have n5 := tN_305 T.1 n
  have n6 := tN_306 T.1 n
  have n7 := tN_307 T.1 n
  have r3 := (ka k (sS_303 W n) (wf_n0 W (fm_ist rfl n3)) (dj_n hd 1303 rfl) (wf_lt W (fm_ist rfl n3))).2.2
  have r4 := (ka k (sS_304 W n) (wf_n0 W (fm_ist rfl n4)) (dj_n hd 1304 rfl) (wf_lt W (fm_ist rfl n4))).2.2
  have r5 := (ka k (sS_305 W n) (wf_n0 W (fm_ist rfl n5)) (dj_n hd 1305 rfl) (wf_lt W (fm_ist rfl n5))).2.2
  have r6 := (ka k (sS_306 W n) (wf_n0 W (fm_ist rfl n6)) (dj_n hd 1306 rfl) (wf_lt W (fm_ist rfl n6))).2.2
  refine ⟨kis k W rfl n, v0, v1, (e 299 rfl rfl).trans v2, ?_⟩
  rw [e 303 rfl rfl, e 304 rfl rfl, e 305 rfl rfl, e 306 rfl rfl, e 307 rfl rfl, r3, r4, r5, r6, (ktt k W (fm_ist rfl n3)).2, (ktt k W (fm_ist rfl n4)).2, (ktt k W (fm_ist rfl n5)).2, (ktt k W (fm_ist rfl n6)).2, (ktt k W (fm_ist rfl n7)).2]
  exact ⟨⟨v3, v4⟩, ⟨v5, v6⟩, ⟨v7, v8⟩, ⟨v9, va⟩, vb⟩
/-- the walks stay told where others write -/
theorem wrTo (k : WK S Mc Nc) (k' : WK S' Mt Nt) (hd : dj uW S = true) (h' : dj lWt S' = true) (T' : Ty Mt) (W' : Wf Mt) (RN : RamI r Nc) (h202 : Nc.1 202 r 0 = Mc.1 202 r 0) (E : Evo r e Mc Nc)
    (R : RelT t r g w1 cr B Vv K F T rt tb Mc Mt) : RelT t r g w1 cr (B + e) Vv K F T rt tb Nc Nt := by
  obtain ⟨⟨rt0, tb0, V⟩, V', I, C, St, Ke⟩ := R
  obtain ⟨v1, v2, v3, v4⟩ := wtC_fr k (fun s b hs => dj_q (Z := fun _ => True) (L := uW) hd s b (fe_app hs)) oc_T trivial ⟨dj_n hd 247 rfl, dj_n hd 1008 rfl⟩ RN h202 V
  exact ⟨⟨rt0, tb0, v1⟩, wtV_fr k' (dj_q h') oc_T trivial T' W' V', I, C, v4 St, fun j hj => ke_tr (v3 j hj) v2 E V.1 RN (Ke j hj)⟩
/-- finding, as the processor does it -/
theorem p_find (SP : StPr p h bd a fu u t hv kp fd Mc) (C : RelC u d1 kn Mc Mt) (R : RelRam r cr Mc Mt) (V : RelT t r g w1 cr B Vv K F T (rtS (ht Mt d1 768)) (ht Mt d1 384) Mc Mt)
    (hm : md = 0 ∨ md = Int32.ofInt 1 ∨ md = Int32.ofInt 3) (hac : acc3 ac) (hs : s = 1 ∨ s = 2 ∨ s = 4 ∨ s = 8) (hw : ul ad % 4096 + s ≤ 4096) (hB : B < 9223372036854775808) (hV : Vv < 2147483648) :
    ∃ pv Nc Nt, (HX46_find p ad ac md (nI s) Mc ∧ GX46_find p ad ac md (nI s) Mc = (pv, Nc)) ∧ (HX101_find w1 ad ac md (nI s) Mt ∧ GX101_find w1 ad ac md (nI s) Mt = (pv, Nt)) ∧
      RelRam r cr Nc Nt ∧ RelT t r g w1 cr (B + 1) Vv K F T (rtS (ht Mt d1 768)) (ht Mt d1 384) Nc Nt ∧ Evo r 1 Mc Nc ∧ WK lX46_find Mc Nc ∧ WK lX101_find Mt Nt ∧
      pv = finW F T K ac md s (wval (wfd (ldT cr Mt) (okLw F T K) (okSw F T K) (rtS (ht Mt d1 768)) ac md ad (ht Mt d1 384)) (ul ad % 4096)) ∧
      (∀ y, y < 2 ^ 57 → okR y → y % 8 = 0 → ldT cr Nt y = lwr (wfd (ldT cr Mt) (okLw F T K) (okSw F T K) (rtS (ht Mt d1 768)) ac md ad (ht Mt d1 384)).2.1 (ldT cr Mt) y) := by
  have SP0 := SP
  obtain ⟨n, v0, v1, v2, v3, v4, v5, v6, v7, v8⟩ := SP
  obtain ⟨⟨Tc, nu, St, Mk⟩, _, w1', _⟩ := id C
  have W := R.1.2.1
  have T' := R.2.1.1
  have W' := R.2.1.2.1
  obtain ⟨⟨rt0, tb0, VC⟩, VT, I, Cv, Sk, Ke⟩ := V
  have h384 : Mc.2.1 41 (tbl Mc u 384) 0 = ht Mt d1 384 := w1' (384, 17, Int64.ofInt (-1)) (by decide)
  have h768 : Mc.2.1 41 (tbl Mc u 768) 0 = ht Mt d1 768 := w1' (768, 16, Int64.ofInt 8288682) (by decide)
  have e27 : Mc.2.2 27 u 0 = tbl Mc u 768 := St.2.2.1.1
  have t384 : Mc.2.2 0 (tbl Mc u 384) 0 = 17 := St.1 (384, 17, Int64.ofInt (-1)) (by decide)
  have i384 : fm_is Mc 14 17 (tbl Mc u 384) = true := fm_isi (by omega) (by omega)
  have nt := VC.2.2.1
  generalize hrt : rtS (ht Mt d1 768) = rt at *
  generalize htb : ht Mt d1 384 = tb at *
  -- the memory with the table and the rights
  have k7 : WK [289, 290] Mc (fm_sI (fm_sL Mc 289 t 0 tb) 290 t 0 rt) :=
    wk_I (wk_L (wk_r (wi_N W)) rfl nt trivial (Or.inr rfl) (Nat.le_refl _)) (lo := 91) (hi := 91) rfl nt trivial (Or.inr rfl) (Nat.le_refl _)
  have T7 : Ty (fm_sI (fm_sL Mc 289 t 0 tb) 290 t 0 rt) := ⟨Tc.1, tyb_sI rfl Tc.2⟩
  obtain ⟨R7, q7, _⟩ := wrR k7 (WK_r (S := []) W') (by decide) (by decide) T7 T' R
  have V7 : WtC t r g (fm_sI (fm_sL Mc 289 t 0 tb) 290 t 0 rt) K rt tb := by
    obtain ⟨x1, x2, x3, x4, x5, x6, x7, _, _⟩ := VC
    refine ⟨R7.1, (oI (fun z => absurd z.1 (by decide))).trans x2, x3, x4, x5, fun i hi => ?_, fun i hi => ?_, ?_, ?_⟩
    · have := x6 i hi
      unfold rgn at this ⊢
      rw [oI (fun z => absurd z.1 (by decide)), show (fm_sI (fm_sL Mc 289 t 0 tb) 290 t 0 rt).2.1 = (fm_sL Mc 289 t 0 tb).2.1 from rfl, oL (fun z => absurd z.1 (by decide)), oL (fun z => absurd z.1 (by decide)), oL (fun z => absurd z.1 (by decide))]
      exact this
    · have := x7 i hi
      rw [oI (fun z => absurd z.1 (by decide)), oI (fun z => absurd z.1 (by decide))]
      exact this
    · show (fm_sL Mc 289 t 0 tb).2.1 289 t 0 = tb
      rw [rL, if_pos ⟨rfl, rfl, rfl⟩]
    · rw [rI, if_pos ⟨rfl, rfl, rfl⟩]
  have K7 : ∀ j, j < 64 → KeS t j Mc (fm_sI (fm_sL Mc 289 t 0 tb) 290 t 0 rt) := fun j hj =>
    ⟨rfl, fun f h1 h2 => ⟨oI (fun z => by omega), oL (M := Mc) (fun z => by omega)⟩, rfl, rfl, fun i => ⟨oL (M := Mc) (fun z => absurd z.1 (by decide)), oL (M := Mc) (fun z => absurd z.1 (by decide))⟩⟩
  have ev7 : Evo r 0 Mc (fm_sI (fm_sL Mc 289 t 0 tb) 290 t 0 rt) := evo_same (fun p _ => q7.2.2.2.2.1 p) q7.2.2.2.1
  obtain ⟨pv, Nc, Nt, ⟨c1, c2, c3⟩, ⟨b1, b2⟩, R8, V8, S8, K8, VT8, E8, hv8⟩ := rel_find (a := ad) (md := md) R7 V7 VT I Cv hm hac hs hw Sk (fun j hj => ke_tr (c := 0) (K7 j hj) (oI (fun z => absurd z.1 (by decide))) ev7 VC.1 R7.1 (Ke j hj)) hB hV
  have hF : HX46_find p ad ac md (nI s) Mc ∧ GX46_find p ad ac md (nI s) Mc = (pv, Nc) := by
    unfold HX46_find HX46_find_0 GX46_find GX46_find_0 HX46_table HX46_table_0 GX46_table GX46_table_0
    dsimp only
    rw [show (Int32.ofInt 384).toNatClampNeg = 384 from rfl, v4, v5]
    have e1 : (fm_sL Mc 289 t 0 (Mc.2.1 41 (Mc.2.2 3 (Mc.2.2 25 u 0) 384) 0)).2.2 = Mc.2.2 := rfl
    rw [e1, v4, v5, e27, oL (fun z => absurd z.1 (by decide)), h768, show Mc.2.1 41 (Mc.2.2 3 (Mc.2.2 25 u 0) 384) 0 = tb from h384]
    have e2 : ((ht Mt d1 768 >>> ((Int32.ofInt 18).toInt64 &&& 63)).toInt32 &&& Int32.ofInt 3) = rt := hrt
    rw [e2]
    have e3 : (fm_sI (fm_sL Mc 289 t 0 tb) 290 t 0 rt).2.2 214 p 0 = t := v5
    rw [e3]
    exact ⟨⟨⟨i384, trivial⟩, c1, trivial⟩, by rw [c2]⟩
  have kc : WK lX46_find Mc Nc := by
    have := wX46_find (SL lX46_find) (fun _ => True) (fun _ h => h) fN p ad ac md (nI s) Mc (wi_N W) trivial _ (gX46_find p ad ac md (nI s) Mc Tc n hF.1).1
    rw [hF.2] at this
    exact this
  have kt : WK lX101_find Mt Nt := by
    have := wX101_find (SL lX101_find) (fun _ => True) (fun _ h => h) fN w1 ad ac md (nI s) Mt (wi_N W') trivial _ (gX101_find w1 ad ac md (nI s) Mt T' VT.1 b1).1
    rw [b2] at this
    exact this
  obtain ⟨N', d1_, d2_, d3_, d4_⟩ := X84_find (a := ad) (md := md) V7 I Cv hac Sk (fun j hj => ke_tr (c := 0) (K7 j hj) (oI (fun z => absurd z.1 (by decide))) ev7 VC.1 R7.1 (Ke j hj)) hB hV (by omega : 0 < s ∧ s < 4096)
  have eN : N' = Nc := (Prod.mk.inj (d2_.symm.trans c2)).2
  subst eN
  obtain ⟨_, _, _, _, N1, m1, m2⟩ := d4_
  have ew : wfd (ldC r (fm_sI (fm_sL Mc 289 t 0 tb) 290 t 0 rt)) (okLw F T K) (okSw F T K) rt ac md ad tb = wfd (ldT cr Mt) (okLw F T K) (okSw F T K) rt ac md ad tb := by
    unfold wfd
    rw [wlk0_c (fun x hx => ld_e R7 (wlk0_ok.2 x hx).1)]
  rw [ew] at m2
  have hw8 : ∀ q, (wfd (ldT cr Mt) (okLw F T K) (okSw F T K) rt ac md ad tb).2.1 = some q → q.1 < 2 ^ 57 ∧ okR q.1 ∧ q.1 % 8 = 0 := by
    intro q hq
    unfold wfd at hq
    by_cases k : pln md tb
    · rw [fi_pos k] at hq
      by_cases k2 : ul ad < 2 ^ 56
      · rw [fi_pos k2] at hq
        cases hq
      · rw [fi_neg k2] at hq
        cases hq
    · rw [fi_neg k] at hq
      have hm8 := (wlk0_w q hq).2.2
      have h8 := wlk0_8.2 _ hm8
      exact ⟨h8.2, (wlk0_ok.2 _ hm8).1, h8.1⟩
  obtain ⟨RMw, _, _, _, lMw⟩ := wrC_k (r := r) m1.1 hw8
  refine ⟨pv, N', Nt, hF, ⟨b1, b2⟩, R8, ⟨⟨rt, tb, V8⟩, VT8, I, Cv, S8, K8⟩, ?_, kc, kt, hv8, fun y hy ok h8 => ?_⟩
  · have := evo_t ev7 E8
    rw [Nat.zero_add] at this
    exact this
  · have e1 : ldC r N1 y = ldT cr Mt y := (ldC_s R7.1 m1.1 m1.2.2.2.1 ok).trans (ld_e R7 ok)
    rw [← ld_e R8 ok, ldC_s RMw m2.1 m2.2.2.2.1 ok, lMw y hy ok h8]
    unfold lwr
    rw [e1]
end Pf
