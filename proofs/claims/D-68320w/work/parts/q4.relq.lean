/-! a processor against the twin's: the whole relation, finding and exceptions in it -/
set_option maxRecDepth 100000
def RelP (p h bd a fu : Nat) (cf : Nat → Nat) (rg u t hv kp fd m c1 f1 d1 w1 hq s dd x dk q rq r g sg bl cr np : Nat) (kn : Int32) (o : Option Wt) (fs : Fs) (B Bk Vv : Nat) (K : Rg) (F T : Nat → Nat) (rt : Int32) (tb : Int64) (Mc Mt : FM) : Prop :=
  PrC p h bd a fu u t hv kp fd r Mc ∧ PrT m h np c1 f1 d1 w1 hq Mt ∧ OwW p m h Mc Mt ∧ RelI a c1 Mc Mt o ∧ RelC u d1 kn Mc Mt ∧ RelF fu cf rg f1 Mc Mt fs ∧
  RelT t r g w1 cr Bk Vv K F T rt tb Mc Mt ∧ KcP kp r Bk Mc ∧ RelB bd s dd x dk q rq r m sg bl cr np B Mc Mt
/-- all places of the component that are held against the twin's; and the twin's -/
def uCc : List Nat := uPr ++ (uH ++ (uA ++ (218 :: (uI ++ (lC ++ (uFl ++ (uW ++ (uKp ++ (uR ++ (uB ++ ([22, 23] ++ (lG ++ uD))))))))))))
def uTt : List Nat := uQ ++ (lIt ++ (307 :: 1307 :: (lCt ++ (lFt ++ (lWt ++ (uRt ++ (uBt ++ ([315] ++ (lGt ++ lDt)))))))))
theorem dj_sub {L L' S : List Nat} (h : dj L S = true) (hs : L'.all (fun x => fe_mem L x) = true) : dj L' S = true := by
  refine List.all_eq_true.mpr (fun x hx => ?_)
  exact List.all_eq_true.mp h x (mem_fe (List.all_eq_true.mp hs x hx))
section Rq
variable {p h bd a fu rg u t hv kp fd m c1 f1 d1 w1 hq s dd x dk q rq r g sg bl cr np : Nat} {cf : Nat → Nat} {kn : Int32} {o : Option Wt} {fs : Fs} {B Bk Vv : Nat} {K : Rg} {F T : Nat → Nat} {rt : Int32} {tb : Int64} {S S' : List Nat} {Mc Mt Nc Nt : FM}
theorem relP_ram (R : RelP p h bd a fu cf rg u t hv kp fd m c1 f1 d1 w1 hq s dd x dk q rq r g sg bl cr np kn o fs B Bk Vv K F T rt tb Mc Mt) : RelRam r cr Mc Mt := R.2.2.2.2.2.2.2.2.2.1.2.1
/-- others write: both sides -/
theorem relP_k (kc : WK S Mc Nc) (kt : WK S' Mt Nt) (hc : dj uCc S = true) (ht' : dj uTt S' = true) (TN : Ty Nc) (TN' : Ty Nt) (R : RelP p h bd a fu cf rg u t hv kp fd m c1 f1 d1 w1 hq s dd x dk q rq r g sg bl cr np kn o fs B Bk Vv K F T rt tb Mc Mt) : RelP p h bd a fu cf rg u t hv kp fd m c1 f1 d1 w1 hq s dd x dk q rq r g sg bl cr np kn o fs B Bk Vv K F T rt tb Nc Nt := by
  have RR := relP_ram R
  obtain ⟨PC, PT, OW, RI, RC, RF, RT, KP, RB⟩ := R
  have T0 := RR.1.1
  have W := RR.1.2.1
  have T' := RR.2.1.1
  have W' := RR.2.1.2.1
  obtain ⟨R', q1, q2⟩ := wrR kc kt (dj_sub hc (by decide)) (dj_sub ht' (by decide)) TN TN' RR
  have E : Evo r 0 Mc Nc := evo_same (fun p _ => q1.2.2.2.2.1 p) q1.2.2.2.1
  exact ⟨prC_k kc (dj_sub hc (by decide)) (dj_sub hc (by decide)) (dj_sub hc (by decide)) RR.1 PC, prT_k kt (dj_sub ht' (by decide)) (dj_sub ht' (by decide)) RI.2.1 T' W' PT,
    owW_k kc kt (dj_sub hc (by decide)) (dj_sub ht' (by decide)) W T' W' PC.1.1 PT.1.1 OW, wrI kc kt (dj_sub hc (by decide)) (dj_sub ht' (by decide)) T0 W T' W' RI, wrCt kc kt (dj_sub hc (by decide)) (dj_sub ht' (by decide)) W W' TN TN' RC,
    wrF kc kt (dj_sub hc (by decide)) (dj_sub ht' (by decide)) W W' TN TN' RF, wrTo (e := 0) kc kt (dj_sub hc (by decide)) (dj_sub ht' (by decide)) T' W' R'.1 q1.2.1 E RT, kcP_k (e := 0) kc (dj_sub hc (by decide)) E RR.1 R'.1 KP,
    wrB kc kt (dj_sub hc (by decide)) (dj_sub ht' (by decide)) R' RB⟩
theorem relP_t (kt : WK S' Mt Nt) (ht' : dj uTt S' = true) (TN' : Ty Nt) (R : RelP p h bd a fu cf rg u t hv kp fd m c1 f1 d1 w1 hq s dd x dk q rq r g sg bl cr np kn o fs B Bk Vv K F T rt tb Mc Mt) : RelP p h bd a fu cf rg u t hv kp fd m c1 f1 d1 w1 hq s dd x dk q rq r g sg bl cr np kn o fs B Bk Vv K F T rt tb Mc Nt :=
  relP_k (WK_r (S := []) (relP_ram R).1.2.1) kt (by decide) ht' (relP_ram R).1.1 TN' R
theorem relP_c (kc : WK S Mc Nc) (hc : dj uCc S = true) (TN : Ty Nc) (R : RelP p h bd a fu cf rg u t hv kp fd m c1 f1 d1 w1 hq s dd x dk q rq r g sg bl cr np kn o fs B Bk Vv K F T rt tb Mc Mt) : RelP p h bd a fu cf rg u t hv kp fd m c1 f1 d1 w1 hq s dd x dk q rq r g sg bl cr np kn o fs B Bk Vv K F T rt tb Nc Mt :=
  relP_k kc (WK_r (S := []) (relP_ram R).2.1.2.1) hc (by decide) TN (relP_ram R).2.1.1 R
/-- the twin was told -/
def Told (d1 : Nat) (rt : Int32) (tb : Int64) (M : FM) : Prop := rtS (ht M d1 768) = rt ∧ ht M d1 384 = tb
theorem told_k {M N : FM} (k : WK S M N) (hd : dj [361, 1361] S = true) (T0 : Ty M) (W : Wf M) (n : fm_is M 95 95 d1 = true) (V : Told d1 rt tb M) : Told d1 rt tb N := by
  have n1 := tN_361 T0.1 n
  have e : ∀ i, ht N d1 i = ht M d1 i := fun i => by
    unfold ht
    rw [(kf (f := 361) k rfl (dj_n hd 361 rfl) (wf_lt W (fm_ist rfl n))).2.2, (ka k (sS_361 W n) (wf_n0 W (fm_ist rfl n1)) (dj_n hd 1361 rfl) (wf_lt W (fm_ist rfl n1))).2.1]
  unfold Told
  rw [e, e]
  exact V
theorem P_find {ad : Int64} {ac md : Int32} {z : Nat} (R : RelP p h bd a fu cf rg u t hv kp fd m c1 f1 d1 w1 hq s dd x dk q rq r g sg bl cr np kn o fs B Bk Vv K F T rt tb Mc Mt) (To : Told d1 rt tb Mt) (hm : md = 0 ∨ md = Int32.ofInt 1 ∨ md = Int32.ofInt 3) (hac : acc3 ac) (hs : z = 1 ∨ z = 2 ∨ z = 4 ∨ z = 8) (hw : ul ad % 4096 + z ≤ 4096)
    (hB : Bk < 9223372036854775808) (hV : Vv < 2147483648) :
    ∃ pv Nc Nt, (HX46_find p ad ac md (nI z) Mc ∧ GX46_find p ad ac md (nI z) Mc = (pv, Nc)) ∧ (HX101_find w1 ad ac md (nI z) Mt ∧ GX101_find w1 ad ac md (nI z) Mt = (pv, Nt)) ∧
      RelP p h bd a fu cf rg u t hv kp fd m c1 f1 d1 w1 hq s dd x dk q rq r g sg bl cr np kn o fs B (Bk + 1) Vv K F T rt tb Nc Nt ∧ Told d1 rt tb Nt ∧ Evo r 1 Mc Nc ∧ WK lX46_find Mc Nc ∧ WK lX101_find Mt Nt ∧
      pv = finW F T K ac md z (wval (wfd (ldT cr Mt) (okLw F T K) (okSw F T K) rt ac md ad tb) (ul ad % 4096)) ∧
      (∀ y, y < 2 ^ 57 → okR y → y % 8 = 0 → ldT cr Nt y = lwr (wfd (ldT cr Mt) (okLw F T K) (okSw F T K) rt ac md ad tb).2.1 (ldT cr Mt) y) := by
  have RR := relP_ram R
  obtain ⟨PC, PT, OW, RI, RC, RF, RT, KP, RB⟩ := R
  have T0 := RR.1.1
  have W := RR.1.2.1
  have T' := RR.2.1.1
  have W' := RR.2.1.2.1
  obtain ⟨to1, to2⟩ := id To
  subst to1 to2
  obtain ⟨pv, Nc, Nt, hF, hG, R', RT', E', kc, kt, hv⟩ := p_find PC.1 RC RR RT hm hac hs hw hB hV
  have TN := R'.1.1
  have TN' := R'.2.1.1
  exact ⟨pv, Nc, Nt, hF, hG, ⟨prC_k kc (by decide) (by decide) (by decide) RR.1 PC, prT_k kt (by decide) (by decide) RI.2.1 T' W' PT, owW_k kc kt (by decide) (by decide) W T' W' PC.1.1 PT.1.1 OW, wrI kc kt (by decide) (by decide) T0 W T' W' RI,
    wrCt kc kt (by decide) (by decide) W W' TN TN' RC, wrF kc kt (by decide) (by decide) W W' TN TN' RF, RT', kcP_k kc (by decide) E' RR.1 R'.1 KP, wrB kc kt (by decide) (by decide) R' RB⟩, told_k kt (by decide) T' W' RC.2.1.2.1 To, E', kc, kt, hv⟩
theorem P_raise (R : RelP p h bd a fu cf rg u t hv kp fd m c1 f1 d1 w1 hq s dd x dk q rq r g sg bl cr np kn o fs B Bk Vv K F T rt tb Mc Mt) {c : Int32} {kc : Nat} (hc : ui c = kc) (hk : kc < 64) (v : Int64) (h320 : Mt.1 320 m 0 = c) (h321 : Mt.2.1 321 m 0 = v) :
    ∃ Nc Nt, GX46_raise p c v Mc = (Int32.ofInt 0, Nc) ∧ (HX92_step_96 m c1 d1 Mt ∧ GX92_step_96 m c1 d1 Mt = Nt) ∧ RelP p h bd a fu cf rg u t hv kp fd m c1 f1 d1 w1 hq s dd x dk q rq r g sg bl cr np kn none fs B Bk Vv K F T rt tb Nc Nt ∧ WK lX46_raise Mc Nc ∧ WK [345, 347, 353, 358, 360, 365, 1361] Mt Nt := by
  have RR := relP_ram R
  obtain ⟨PC, PT, OW, RI, RC, RF, RT, KP, RB⟩ := R
  have T0 := RR.1.1
  have W := RR.1.2.1
  have T' := RR.2.1.1
  have W' := RR.2.1.2.1
  obtain ⟨Nc, Nt, e1, e2, RI', RC', Ev', kc', kt'⟩ := p_raise PC.1 RI RC PT.2.2 W W' hc hk v h320 h321
  have TN := RC'.1.1
  have TN' := RC'.2.1.1
  obtain ⟨R', q1, q2⟩ := wrR kc' kt' (by decide) (by decide) TN TN' RR
  have E : Evo r 0 Mc Nc := evo_same (fun p _ => q1.2.2.2.2.1 p) q1.2.2.2.1
  exact ⟨Nc, Nt, e1, e2, ⟨prC_k kc' (by decide) (by decide) (by decide) RR.1 PC, ⟨stQ_k kt' (by decide) T' W' PT.1, kis kt' W' rfl PT.2.1, Ev'⟩, owW_k kc' kt' (by decide) (by decide) W T' W' PC.1.1 PT.1.1 OW, RI', RC', wrF kc' kt' (by decide) (by decide) W W' TN TN' RF,
    wrTo (e := 0) kc' kt' (by decide) (by decide) T' W' R'.1 q1.2.1 E RT, kcP_k (e := 0) kc' (by decide) E RR.1 R'.1 KP, wrB kc' kt' (by decide) (by decide) R' RB⟩, kc', kt'⟩
end Rq
