/-! a processor against the twin's: one of its units goes on, the rest stays -/
set_option maxRecDepth 100000
def uCx : List Nat := uPr ++ (uH ++ (uA ++ (uKp ++ (uR ++ (uB ++ ([22, 23] ++ (lG ++ uD)))))))
def uTx : List Nat := uQ ++ (uRt ++ (uBt ++ ([315] ++ (lGt ++ lDt))))
def uCi : List Nat := uCx ++ (218 :: (lC ++ (uFl ++ uW)))
def uTi : List Nat := uTx ++ (307 :: 1307 :: (lCt ++ (lFt ++ lWt)))
def uCu : List Nat := uCx ++ (218 :: (uI ++ (uFl ++ uW)))
def uTu : List Nat := uTx ++ (307 :: 1307 :: (lIt ++ (lFt ++ lWt)))
def uCf : List Nat := uCx ++ (218 :: (uI ++ (lC ++ uW)))
def uTf : List Nat := uTx ++ (307 :: 1307 :: (lIt ++ (lCt ++ lWt)))
def uCw : List Nat := uCx ++ (218 :: (uI ++ (lC ++ uFl)))
def uTw : List Nat := uTx ++ (307 :: 1307 :: (lIt ++ (lCt ++ lFt)))
section Rx
variable {p h bd a fu rg u t hv kp fd m c1 f1 d1 w1 hq s dd x dk q rq r g sg bl cr np : Nat} {cf : Nat → Nat} {kn : Int32} {o o' : Option Wt} {fs fs' : Fs} {B Bk Vv Vv' : Nat} {K K' : Rg} {F T F' T' : Nat → Nat} {rt rt' : Int32} {tb tb' : Int64} {S S' : List Nat} {Mc Mt Nc Nt : FM}
theorem relP_x (kc : WK S Mc Nc) (kt : WK S' Mt Nt) (hc : dj uCx S = true) (ht' : dj uTx S' = true) (TN : Ty Nc) (TN' : Ty Nt) (R : RelP p h bd a fu cf rg u t hv kp fd m c1 f1 d1 w1 hq s dd x dk q rq r g sg bl cr np kn o fs B Bk Vv K F T rt tb Mc Mt) (Ev : EvT c1 Nt) (OW : OwW p m h Nc Nt) (RI : RelI a c1 Nc Nt o') (RC : RelC u d1 kn Nc Nt) (RF : RelF fu cf rg f1 Nc Nt fs')
    (RT : RamI r Nc → Nc.1 202 r 0 = Mc.1 202 r 0 → Evo r 0 Mc Nc → RelRam r cr Nc Nt → RelT t r g w1 cr Bk Vv' K' F' T' rt' tb' Nc Nt) : RelP p h bd a fu cf rg u t hv kp fd m c1 f1 d1 w1 hq s dd x dk q rq r g sg bl cr np kn o' fs' B Bk Vv' K' F' T' rt' tb' Nc Nt ∧ RamQ r Mc Nc := by
  have RR := relP_ram R
  obtain ⟨PC, PT, _, _, _, _, _, KP, RB⟩ := R
  have T0 := RR.1.1
  have W := RR.1.2.1
  have Tm := RR.2.1.1
  have W' := RR.2.1.2.1
  obtain ⟨R', q1, q2⟩ := wrR kc kt (dj_sub hc (by decide)) (dj_sub ht' (by decide)) TN TN' RR
  have E : Evo r 0 Mc Nc := evo_same (fun p _ => q1.2.2.2.2.1 p) q1.2.2.2.1
  exact ⟨⟨prC_k kc (dj_sub hc (by decide)) (dj_sub hc (by decide)) (dj_sub hc (by decide)) RR.1 PC, ⟨stQ_k kt (dj_sub ht' (by decide)) Tm W' PT.1, kis kt W' rfl PT.2.1, Ev⟩, OW, RI, RC, RF, RT R'.1 q1.2.1 E R', kcP_k (e := 0) kc (dj_sub hc (by decide)) E RR.1 R'.1 KP,
    wrB kc kt (dj_sub hc (by decide)) (dj_sub ht' (by decide)) R' RB⟩, q1⟩
/-- the integer unit goes on -/
theorem relP_i (kc : WK S Mc Nc) (kt : WK S' Mt Nt) (hc : dj uCi S = true) (ht' : dj uTi S' = true) (TN : Ty Nc) (TN' : Ty Nt) (R : RelP p h bd a fu cf rg u t hv kp fd m c1 f1 d1 w1 hq s dd x dk q rq r g sg bl cr np kn o fs B Bk Vv K F T rt tb Mc Mt) (Ev : EvT c1 Nt) (RI : RelI a c1 Nc Nt o') : RelP p h bd a fu cf rg u t hv kp fd m c1 f1 d1 w1 hq s dd x dk q rq r g sg bl cr np kn o' fs B Bk Vv K F T rt tb Nc Nt ∧ RamQ r Mc Nc := by
  have RR := relP_ram R
  have R0 := R
  obtain ⟨PC, PT, OW, _, RC, RF, RT, KP, RB⟩ := R
  have W := RR.1.2.1
  have Tm := RR.2.1.1
  have W' := RR.2.1.2.1
  exact relP_x kc kt (dj_sub hc (by decide)) (dj_sub ht' (by decide)) TN TN' R0 Ev (owW_k kc kt (dj_sub hc (by decide)) (dj_sub ht' (by decide)) W Tm W' PC.1.1 PT.1.1 OW) RI (wrCt kc kt (dj_sub hc (by decide)) (dj_sub ht' (by decide)) W W' TN TN' RC)
    (wrF kc kt (dj_sub hc (by decide)) (dj_sub ht' (by decide)) W W' TN TN' RF) (fun RN h202 E _ => wrTo (e := 0) kc kt (dj_sub hc (by decide)) (dj_sub ht' (by decide)) Tm W' RN h202 E RT)
/-- the control unit goes on -/
theorem relP_u (kc : WK S Mc Nc) (kt : WK S' Mt Nt) (hc : dj uCu S = true) (ht' : dj uTu S' = true) (TN : Ty Nc) (TN' : Ty Nt) (R : RelP p h bd a fu cf rg u t hv kp fd m c1 f1 d1 w1 hq s dd x dk q rq r g sg bl cr np kn o fs B Bk Vv K F T rt tb Mc Mt) (RC : RelC u d1 kn Nc Nt) : RelP p h bd a fu cf rg u t hv kp fd m c1 f1 d1 w1 hq s dd x dk q rq r g sg bl cr np kn o fs B Bk Vv K F T rt tb Nc Nt ∧ RamQ r Mc Nc := by
  have RR := relP_ram R
  have R0 := R
  obtain ⟨PC, PT, OW, RI, _, RF, RT, KP, RB⟩ := R
  have T0 := RR.1.1
  have W := RR.1.2.1
  have Tm := RR.2.1.1
  have W' := RR.2.1.2.1
  exact relP_x kc kt (dj_sub hc (by decide)) (dj_sub ht' (by decide)) TN TN' R0 (evT_k kt (dj_sub ht' (by decide)) Tm W' RI.2.1 PT.2.2) (owW_k kc kt (dj_sub hc (by decide)) (dj_sub ht' (by decide)) W Tm W' PC.1.1 PT.1.1 OW)
    (wrI kc kt (dj_sub hc (by decide)) (dj_sub ht' (by decide)) T0 W Tm W' RI) RC
    (wrF kc kt (dj_sub hc (by decide)) (dj_sub ht' (by decide)) W W' TN TN' RF) (fun RN h202 E _ => wrTo (e := 0) kc kt (dj_sub hc (by decide)) (dj_sub ht' (by decide)) Tm W' RN h202 E RT)
/-- the float unit goes on -/
theorem relP_f (kc : WK S Mc Nc) (kt : WK S' Mt Nt) (hc : dj uCf S = true) (ht' : dj uTf S' = true) (TN : Ty Nc) (TN' : Ty Nt) (R : RelP p h bd a fu cf rg u t hv kp fd m c1 f1 d1 w1 hq s dd x dk q rq r g sg bl cr np kn o fs B Bk Vv K F T rt tb Mc Mt) (RF : RelF fu cf rg f1 Nc Nt fs') : RelP p h bd a fu cf rg u t hv kp fd m c1 f1 d1 w1 hq s dd x dk q rq r g sg bl cr np kn o fs' B Bk Vv K F T rt tb Nc Nt ∧ RamQ r Mc Nc := by
  have RR := relP_ram R
  have R0 := R
  obtain ⟨PC, PT, OW, RI, RC, _, RT, KP, RB⟩ := R
  have T0 := RR.1.1
  have W := RR.1.2.1
  have Tm := RR.2.1.1
  have W' := RR.2.1.2.1
  exact relP_x kc kt (dj_sub hc (by decide)) (dj_sub ht' (by decide)) TN TN' R0 (evT_k kt (dj_sub ht' (by decide)) Tm W' RI.2.1 PT.2.2) (owW_k kc kt (dj_sub hc (by decide)) (dj_sub ht' (by decide)) W Tm W' PC.1.1 PT.1.1 OW)
    (wrI kc kt (dj_sub hc (by decide)) (dj_sub ht' (by decide)) T0 W Tm W' RI) (wrCt kc kt (dj_sub hc (by decide)) (dj_sub ht' (by decide)) W W' TN TN' RC) RF
    (fun RN h202 E _ => wrTo (e := 0) kc kt (dj_sub hc (by decide)) (dj_sub ht' (by decide)) Tm W' RN h202 E RT)
/-- the walks go on -/
theorem relP_w (kc : WK S Mc Nc) (kt : WK S' Mt Nt) (hc : dj uCw S = true) (ht' : dj uTw S' = true) (TN : Ty Nc) (TN' : Ty Nt) (R : RelP p h bd a fu cf rg u t hv kp fd m c1 f1 d1 w1 hq s dd x dk q rq r g sg bl cr np kn o fs B Bk Vv K F T rt tb Mc Mt)
    (RT : RamI r Nc → Nc.1 202 r 0 = Mc.1 202 r 0 → Evo r 0 Mc Nc → RelRam r cr Nc Nt → RelT t r g w1 cr Bk Vv' K' F' T' rt' tb' Nc Nt) : RelP p h bd a fu cf rg u t hv kp fd m c1 f1 d1 w1 hq s dd x dk q rq r g sg bl cr np kn o fs B Bk Vv' K' F' T' rt' tb' Nc Nt ∧ RamQ r Mc Nc := by
  have RR := relP_ram R
  have R0 := R
  obtain ⟨PC, PT, OW, RI, RC, RF, _, KP, RB⟩ := R
  have T0 := RR.1.1
  have W := RR.1.2.1
  have Tm := RR.2.1.1
  have W' := RR.2.1.2.1
  exact relP_x kc kt (dj_sub hc (by decide)) (dj_sub ht' (by decide)) TN TN' R0 (evT_k kt (dj_sub ht' (by decide)) Tm W' RI.2.1 PT.2.2) (owW_k kc kt (dj_sub hc (by decide)) (dj_sub ht' (by decide)) W Tm W' PC.1.1 PT.1.1 OW)
    (wrI kc kt (dj_sub hc (by decide)) (dj_sub ht' (by decide)) T0 W Tm W' RI) (wrCt kc kt (dj_sub hc (by decide)) (dj_sub ht' (by decide)) W W' TN TN' RC) (wrF kc kt (dj_sub hc (by decide)) (dj_sub ht' (by decide)) W W' TN TN' RF) RT
end Rx
