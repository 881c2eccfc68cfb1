/-! a processor against the twin's: all that is held against each other -/
set_option maxRecDepth 100000
/-- what is one processor's: on the component's side, on the twin's -/
def PrC (p h bd a fu u t hv kp fd r : Nat) (M : FM) : Prop := StPr p h bd a fu u t hv kp fd M ∧ StH hv M ∧ ChI r M ∧ fm_is M 41 41 fd = true
def PrT (m h np c1 f1 d1 w1 hq : Nat) (M : FM) : Prop := StQ m h np c1 f1 d1 w1 hq M ∧ fm_is M 97 97 hq = true ∧ EvT c1 M
def OwW (p m h : Nat) (Mc Mt : FM) : Prop := Mc.1 218 p 0 = Mt.1 3 (Mt.2.2 307 m 0) h
def uX : List Nat := uPr ++ (uH ++ (uA ++ (uI ++ (lC ++ (uFl ++ (uW ++ (uB ++ ([22, 23] ++ (lG ++ (uD ++ (218 :: uKp)))))))))))
section Rp
variable {p h bd a fu u t hv kp fd m np c1 f1 d1 w1 hq r g cr B Vv e : Nat} {S S' : List Nat} {M N Mc Nc Mt Nt : FM}
theorem prC_k (k : WK S M N) (h1 : dj uPr S = true) (h2 : dj uH S = true) (h3 : dj uA S = true) (R : RamI r M) (V : PrC p h bd a fu u t hv kp fd r M) : PrC p h bd a fu u t hv kp fd r N :=
  ⟨stPr_k k h1 R.2.1 V.1, stH_k k h2 R.1 R.2.1 V.2.1, chI_k k h3 R.1 R.2.1 R.2.2.1 V.2.2.1, kis k R.2.1 rfl V.2.2.2⟩
theorem prT_k (k : WK S M N) (h1 : dj uQ S = true) (h2 : dj lIt S = true) (nc : fm_is M 94 94 c1 = true) (T : Ty M) (W : Wf M) (V : PrT m h np c1 f1 d1 w1 hq M) : PrT m h np c1 f1 d1 w1 hq N :=
  ⟨stQ_k k h1 T W V.1, kis k W rfl V.2.1, evT_k k h2 T W nc V.2.2⟩
theorem owW_k (k : WK S Mc Nc) (k' : WK S' Mt Nt) (h1 : dj [218] S = true) (h2 : dj [307, 1307] S' = true) (W : Wf Mc) (T' : Ty Mt) (W' : Wf Mt) (n : fm_is Mc 75 75 p = true) (n' : fm_is Mt 92 92 m = true) (V : OwW p m h Mc Mt) : OwW p m h Nc Nt := by
  have n7 := tN_307 T'.1 n'
  unfold OwW
  rw [(kf (f := 218) k rfl (dj_n h1 218 rfl) (wf_lt W (fm_ist rfl n))).1, (kf (f := 307) k' rfl (dj_n h2 307 rfl) (wf_lt W' (fm_ist rfl n'))).2.2, (ka k' (sS_307 W' n') (wf_n0 W' (fm_ist rfl n7)) (dj_n h2 1307 rfl) (wf_lt W' (fm_ist rfl n7))).1]
  exact V
end Rp
