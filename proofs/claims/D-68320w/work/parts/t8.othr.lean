/-! a processor against the twin's, while another one goes on -/
set_option maxRecDepth 100000
/-- places that no processor writes, though they belong to all -/
def uOc : List Nat := uPr ++ (uH ++ (uA ++ ([10, 147, 148, 11, 12, 113, 1099, 1100, 1101] ++ [247, 1008, 202, 216, 1216])))
theorem own_row {ow : Nat → Nat} {M : FM} {a s i lo l2 h2 : Nat} (Ow : Own ow M) (W : Wf M) (n : fm_is M lo lo a = true) (hl : Nat.ble 1 lo = true) (sf : Sf M a s) (hb : pvb lo s = false) (hs : fe_mem xs_S s = true) (nv : fm_is M l2 h2 (M.2.2 3 a i) = true) (hp : pvr l2 h2 = true) : ow (M.2.2 3 a i) = i + 1 := by
  have t0 : M.2.2 0 a 0 = lo := by have := fm_isd n; omega
  have t1 : M.2.2 0 a 1 = s := by
    rcases sf with z | z
    · exact absurd z (wf_n0 W (fm_ist hl n))
    · exact z.2
  have o0 : ow a = 0 := own_0 Ow (by unfold Pv; rw [t0, t1]; exact hb)
  rcases Ow.2.2.2 a i (by rw [t1]; exact hs) o0 with z | z
  · exact absurd z ((Ow.1 _).mp (pv_r nv hp))
  · exact z
theorem own_sh {ow : Nat → Nat} {M : FM} {a lo : Nat} (Ow : Own ow M) (n : fm_is M lo lo a = true) (hb : pvn lo = true) : ow a = 0 := by
  have t0 : M.2.2 0 a 0 = lo := by have := fm_isd n; omega
  exact own_0 Ow (by unfold Pv; rw [t0]; exact pvn_b hb _)
theorem kcP_o {S Z O : Nat → Prop} {hx kp r B e p : Nat} {M N : FM} (k' : Wk S Z hx (fm_nx M) M N) (q : Qf S Z O uKp) (oc : Oc O M) (op : O p) (np_ : fm_is M 75 75 p = true) (hp : M.2.2 216 p 0 = kp) (E : Evo r e M N) (R : RamI r M) (R' : RamI r N) (h : KcP kp r B M) : KcP kp r (B + e) N := by
  have T := R.1
  have W := R.2.1
  have hj := fun j hj => kcP_is T h (j := j) hj
  obtain ⟨n, l, _, hk⟩ := h
  have lk := wf_lt W (fm_ist rfl n)
  have sf : Sf M kp 216 := by rw [← hp]; exact sS_216 W np_
  have n216 : fm_is M 918 918 (M.2.2 216 p 0) = true := by rw [hp]; exact n
  have ok : O kp := by
    rw [← hp]
    exact oc_f (i := 0) oc op n216 rfl rfl
  have r216 := (kaO k' q W ok (fm_ist rfl n) sf rfl).2.2
  have e216 := congrFun (kfO k' q W op (fm_ist rfl np_) (f := 216) rfl rfl).2.2 0
  refine ⟨kis k' W rfl n, (congrFun (kt k' lk).2 0).trans l, ⟨p, kis k' W rfl np_, e216.trans hp⟩, fun j hj' => ?_⟩
  rw [r216]
  have nj := hj j hj'
  have oj : O (M.2.2 3 kp j) := oc_f oc ok nj rfl rfl
  refine kcE_tr (fun f h1 h2 => ?_) E R R' (hk j hj')
  have hm : fe_mem uKp f = true := fe_mem_of (by unfold uKp; simp only [List.mem_cons]; omega)
  have := kfO k' q W oj (fm_ist rfl nj) (f := f) (Nat.ble_eq.mpr (by omega)) hm
  exact ⟨congrFun this.1 0, congrFun this.2.1 0⟩
theorem evT_o {S Z O : Nat → Prop} {hx c1 : Nat} {M N : FM} (k : Wk S Z hx (fm_nx M) M N) (q : Qf S Z O lIt) (oc : Oc O M) (oa : O c1) (T : Ty M) (W : Wf M) (n : fm_is M 94 94 c1 = true) (E : EvT c1 M) : EvT c1 N := by
  have n346 := tN_346 T.1 n
  have o346 := oc_a oc W oa n346 (sS_346 W n) rfl rfl rfl rfl
  have r346 := (kaO k q W o346 (fm_ist rfl n346) (sS_346 W n) rfl).2.1
  unfold EvT
  rw [(kfO k q W oa (fm_ist rfl n) (f := 346) rfl rfl).2.2, (kfO k q W oa (fm_ist rfl n) (f := 347) rfl rfl).2.1, r346]
  exact E
section Ot
variable {p h bd a fu rg u t hv kp fd m c1 f1 d1 w1 hq s dd x dk q rq r g sg bl cr np : Nat} {cf : Nat → Nat} {kn : Int32} {o : Option Wt} {fs : Fs} {B B' Bk Vv e y : Nat} {K : Rg} {F T : Nat → Nat} {rt : Int32} {tb : Int64} {S S' : List Nat} {Mc Mt Nc Nt : FM} {ow ow' : Nat → Nat}
theorem relP_o (hy : y ≠ h) (Ow : Own ow Mc) (op : ow p = h + 1) (Ow' : Own ow' Mt) (kc : WK S Mc Nc) (kc' : Wk (SL S) (Zo ow (fm_nx Mc) y) y (fm_nx Mc) Mc Nc) (kt : WK S' Mt Nt) (kt' : Wk (SL S') (Zo ow' (fm_nx Mt) y) y (fm_nx Mt) Mt Nt)
    (hc : dj uOc S = true) (ht' : dj uQ S' = true) (br : Br m y sg Nt Mt) (E : Evo r e Mc Nc) (RB' : RelB bd s dd x dk q rq r m sg bl cr np B' Nc Nt) (R : RelP p h bd a fu cf rg u t hv kp fd m c1 f1 d1 w1 hq s dd x dk q rq r g sg bl cr np kn o fs B Bk Vv K F T rt tb Mc Mt) : RelP p h bd a fu cf rg u t hv kp fd m c1 f1 d1 w1 hq s dd x dk q rq r g sg bl cr np kn o fs B' (Bk + e) Vv K F T rt tb Nc Nt := by
  have RR := relP_ram R
  have RR' := RB'.2.1.2.1
  obtain ⟨PC, PT, OW, RI, RC, RF, RT, KP, RB⟩ := R
  have T0 := RR.1.1
  have W := RR.1.2.1
  have Tm := RR.2.1.1
  have W' := RR.2.1.2.1
  have TN := RR'.1.1
  have TN' := RR'.2.1.1
  obtain ⟨⟨n, v0, v1, v2, v3, v4, v5, v6, v7, v8⟩, SH, CI, nfd⟩ := id PC
  obtain ⟨n', y1, y2, y3, ⟨y4, y5⟩, ⟨y6, y7⟩, ⟨y8, y9⟩, ⟨ya, yb⟩, yc⟩ := id PT.1
  have oc := oc_o (g := h) Ow
  have oc' := oc_o (g := h) Ow'
  have q1 : ∀ L, Qf (SL S) (Zo ow (fm_nx Mc) y) (fun a => ow a = h + 1) L := fun L s a _ ho _ z => by
    have := own_lt Ow W (a := a) (by omega)
    rcases z with z | z | z <;> omega
  have q2 : ∀ L, Qf (SL S') (Zo ow' (fm_nx Mt) y) (fun a => ow' a = h + 1) L := fun L s a _ ho _ z => by
    have := own_lt Ow' W' (a := a) (by omega)
    rcases z with z | z | z <;> omega
  have oa : ow a = h + 1 := by
    rw [← v2]
    exact oc_f (i := 0) oc op (by rw [v2]; exact RI.1.1) rfl rfl
  have ofu : ow fu = h + 1 := by
    have n212 := tN_212 T0.1 n
    rw [v3] at n212
    rw [← v3]
    exact oc_f (i := 0) oc op (by rw [v3]; exact n212) rfl rfl
  have ou : ow u = h + 1 := by
    rw [← v4]
    exact oc_f (i := 0) oc op (by rw [v4]; exact RC.1.2.1) rfl rfl
  obtain ⟨⟨rt0, tb0, VC⟩, VT, I, Cv, Sk, Ke⟩ := RT
  have ot : ow t = h + 1 := by
    rw [← v5]
    exact oc_f (i := 0) oc op (by rw [v5]; exact VC.2.2.1) rfl rfl
  have hcl : (nI h).toNatClampNeg = h := o_cl (by omega)
  have r1 := own_row (i := h) Ow' W' (tN_303 Tm.1 n') rfl (sS_303 W' n') rfl rfl (by rw [y5]; exact RI.2.1) rfl
  have r2 := own_row (i := h) Ow' W' (tN_304 Tm.1 n') rfl (sS_304 W' n') rfl rfl (by rw [y7]; exact RF.2.1.2.1) rfl
  have r3 := own_row (i := h) Ow' W' (tN_305 Tm.1 n') rfl (sS_305 W' n') rfl rfl (by rw [y9]; exact RC.2.1.2.1) rfl
  have r4 := own_row (i := h) Ow' W' (tN_306 Tm.1 n') rfl (sS_306 W' n') rfl rfl (by rw [yb]; exact VT.1) rfl
  rw [y5] at r1
  rw [y7] at r2
  rw [y9] at r3
  rw [yb] at r4
  have h202 : Nc.1 202 r 0 = Mc.1 202 r 0 := congrFun (kf (f := 202) kc rfl (dj_n hc 202 rfl) (wf_lt W (fm_ist rfl RR.1.2.2.1))).1 0
  refine ⟨prC_k kc (dj_sub hc (by decide)) (dj_sub hc (by decide)) (dj_sub hc (by decide)) RR.1 PC,
    ⟨stQ_k kt ht' Tm W' PT.1, kis kt W' rfl PT.2.1, evT_o kt' (q2 _) oc' r1 Tm W' RI.2.1 PT.2.2⟩, ?_, ?_, ?_, ?_, ?_, ?_, RB'⟩
  · unfold OwW
    rw [(kfO kc' (q1 [218]) W op (fm_ist rfl n) (f := 218) rfl rfl).1, br.2.2 h (fun z => hy z.symm)]
    exact OW
  · exact relI_k kc' (q1 _) ⟨dj_n hc 10 rfl, dj_n hc 147 rfl, dj_n hc 148 rfl⟩ oc oa T0 W kt' (q2 _) oc' r1 Tm W' RI
  · exact relC_k kc' (q1 _) oc ou W TN kt' (q2 _) oc' r3 W' TN' RC
  · obtain ⟨f1_, f2_, f3_, ⟨y_, f4_⟩, f5_⟩ := RF
    obtain ⟨a1, a2⟩ := flU_k (s := fs) kc' (q1 _) oc ofu (fun x hx => dj_n (dj_sub (L' := [10, 11, 12, 113, 1099, 1100, 1101]) hc (by decide)) x hx) W TN f1_
    obtain ⟨b1, b2⟩ := flO_k (s := sVal y_ fs) kt' (q2 _) oc' r2 W' TN' f2_
    exact ⟨a1, b1, a2 f3_, ⟨y_, b2 f4_⟩, f5_⟩
  · obtain ⟨w1_, w2_, w3_, w4_⟩ := wtC_fr kc' (q1 _) oc ot ⟨dj_n hc 247 rfl, dj_n hc 1008 rfl⟩ RR'.1 h202 VC
    exact ⟨⟨rt0, tb0, w1_⟩, wtV_fr kt' (q2 _) oc' r4 Tm W' VT, I, Cv, w4_ Sk, fun j hj => ke_tr (w3_ j hj) w2_ E VC.1 RR'.1 (Ke j hj)⟩
  · exact kcP_o kc' (q1 _) oc op n v7 E RR.1 RR'.1 KP
end Ot
