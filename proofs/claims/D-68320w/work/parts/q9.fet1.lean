/-! fetching: what is kept, written anew -/
set_option maxRecDepth 100000
section Rw
variable {M : FM} {f a i f' a' i' : Nat}
theorem rIe (v : Int32) : (fm_sI M f a i v).1 f a i = v := by rw [rI, if_pos ⟨rfl, rfl, rfl⟩]
theorem rIf2 (v : Int32) (h : f' ≠ f) : (fm_sI M f a i v).1 f' a' i' = M.1 f' a' i' := by rw [rI, if_neg (fun q => h q.1)]
theorem rIa (v : Int32) (h : a' ≠ a) : (fm_sI M f a i v).1 f' a' i' = M.1 f' a' i' := by rw [rI, if_neg (fun q => h q.2.1)]
theorem rLe (v : Int64) : (fm_sL M f a i v).2.1 f a i = v := by rw [rL, if_pos ⟨rfl, rfl, rfl⟩]
theorem rLf2 (v : Int64) (h : f' ≠ f) : (fm_sL M f a i v).2.1 f' a' i' = M.2.1 f' a' i' := by rw [rL, if_neg (fun q => h q.1)]
theorem rLa (v : Int64) (h : a' ≠ a) : (fm_sL M f a i v).2.1 f' a' i' = M.2.1 f' a' i' := by rw [rL, if_neg (fun q => h q.2.1)]
end Rw
section Lt2
variable {r : Nat} {M : FM} {p : Int64}
theorem ld2_lt (R : RamI r M) (h : inR p 2) : ∃ k, k < 65536 ∧ ld2 r M p = nI k ∧ GX11_load r p (Int32.ofInt 2) M = (lN k, M) ∧ HX11_load r p (Int32.ofInt 2) M := by
  obtain ⟨o, ho⟩ : ∃ o, ul p = 2147483648 + o := ⟨ul p - 2147483648, by unfold inR at h; omega⟩
  have hl : o + 2 ≤ 4194304 := by unfold inR at h; omega
  obtain ⟨h1, v, a2, a3⟩ := X11_load R.1 R.2.2.1 ho (sz := Int32.ofInt 2) (s := 2) rfl (by decide) (by decide) hl
  have hv : ul v < 65536 := by
    have p16 : (2 : Nat) ^ 16 = 65536 := by decide
    rw [← p16]
    refine Nat.lt_pow_two_of_testBit _ (fun i hi => ?_)
    have := a3 i
    rw [decide_eq_false (show ¬ i < 8 * 2 by omega), Bool.false_and] at this
    exact this
  have e : v = lN (ul v) := ul_inj (by rw [ul_lN]; omega)
  refine ⟨ul v, hv, ?_, by rw [a2, ← e], h1⟩
  unfold ld2
  rw [a2]
  apply ui_inj
  rw [ui_low, ui_nI]
theorem ul_4095 (x : Int64) : ul (x &&& Int64.ofInt 4095) = ul x % 4096 := by
  rw [ul_and, show ul (Int64.ofInt 4095) = 2 ^ 12 - 1 from rfl, Nat.and_two_pow_sub_one_eq_mod]
/-- over the end of a page -/
theorem pg_over (x : Int64) {n : Int32} {l : Nat} (hn : n = nI l) (hl : l ≤ 8) : 0 < lg_cmp ((x &&& Int64.ofInt 4095) + n.toInt64) (Int64.ofInt 4096) ↔ ¬ ul x % 4096 + l ≤ 4096 := by
  have e : ul n.toInt64 = l := by
    rw [hn]
    have : l = 0 ∨ l = 1 ∨ l = 2 ∨ l = 3 ∨ l = 4 ∨ l = 5 ∨ l = 6 ∨ l = 7 ∨ l = 8 := by omega
    rcases this with rfl | rfl | rfl | rfl | rfl | rfl | rfl | rfl | rfl <;> rfl
  rw [cl_gt, tl, tl, ul_add, ul_4095, e, show ul (Int64.ofInt 4096) = 4096 from rfl, if_pos (by omega), if_pos (by omega)]
  omega
/-- the place of what is kept -/
theorem kp_ix (x : Int64) : ∃ j, j < 512 ∧ (x >>> ((Int32.ofInt 1).toInt64 &&& 63)).toInt32 &&& Int32.ofInt 511 = nI j := by
  refine ⟨ui ((x >>> ((Int32.ofInt 1).toInt64 &&& 63)).toInt32 &&& Int32.ofInt 511), ?_, ?_⟩
  · rw [ui_and, show ui (Int32.ofInt 511) = 2 ^ 9 - 1 from rfl, Nat.and_two_pow_sub_one_eq_mod]
    exact Nat.mod_lt _ (by decide)
  · apply ui_inj
    rw [ui_nI, Nat.mod_eq_of_lt (ui_lt _)]
end Lt2
/-- one place of what is kept is written, and what the processor runs -/
def lKq : List Nat := [180, 181, 182, 183, 184, 185, 219, 220, 221]
def Kq (p k : Nat) (M N : FM) : Prop := Ty N ∧ WK lKq M N ∧ ∀ e, e ≠ k → ∀ f, 180 ≤ f → f ≤ 185 → N.1 f e 0 = M.1 f e 0 ∧ N.2.1 f e 0 = M.2.1 f e 0
def kpR (k : Nat) (is : Int32) (at_ wr : Int64) (w rw_ ln : Int32) (M : FM) : FM :=
  fm_sI (fm_sI (fm_sI (fm_sL (fm_sL (fm_sI M 180 k 0 is) 181 k 0 at_) 182 k 0 wr) 183 k 0 w) 185 k 0 rw_) 184 k 0 ln
section Kw
variable {p k r bd : Nat} {M N X : FM} {is w rw_ ln : Int32} {at_ wr : Int64}
theorem kq_r (T : Ty M) (W : Wf M) : Kq p k M M := ⟨T, WK_r W, fun _ _ _ _ _ => ⟨rfl, rfl⟩⟩
theorem kq_t (q : Kq p k M N) (q' : Kq p k N X) : Kq p k M X := ⟨q'.1, WK_t q.2.1 q'.2.1, fun e he f h1 h2 => ⟨(q'.2.2 e he f h1 h2).1.trans (q.2.2 e he f h1 h2).1, (q'.2.2 e he f h1 h2).2.trans (q.2.2 e he f h1 h2).2⟩⟩
theorem kq_is (q : Kq p k M N) (W : Wf M) (n : fm_is M 65 65 k = true) : fm_is N 65 65 k = true := kis q.2.1 W rfl n
theorem kq_p {f : Nat} (q : Kq p k M N) (n : fm_is N 75 75 p = true) (h : f = 219 ∨ f = 220 ∨ f = 221) (v : Int32) : Kq p k M (fm_sI N f p 0 v) := by
  refine kq_t q ⟨?_, WK_s ?_ (WK_I (f := f) q.2.1.1.1 n rfl ?_ v), fun e he g h1 h2 => ⟨rIf2 v (by omega), rfl⟩⟩
  · rcases h with rfl | rfl | rfl <;> exact ⟨q.1.1, tyb_sI rfl q.1.2⟩
  · rcases h with rfl | rfl | rfl <;> decide
  · rcases h with rfl | rfl | rfl <;> rfl
theorem kq_k {f : Nat} (q : Kq p k M N) (n : fm_is N 65 65 k = true) (h : f = 183 ∨ f = 184 ∨ f = 185) (v : Int32) : Kq p k M (fm_sI N f k 0 v) := by
  refine kq_t q ⟨?_, WK_s ?_ (WK_I (f := f) q.2.1.1.1 n rfl ?_ v), fun e he g h1 h2 => ⟨rIa v he, rfl⟩⟩
  · rcases h with rfl | rfl | rfl <;> exact ⟨q.1.1, tyb_sI rfl q.1.2⟩
  · rcases h with rfl | rfl | rfl <;> decide
  · rcases h with rfl | rfl | rfl <;> rfl
theorem kq_b (q : Kq p k M N) (n : fm_is N 65 65 k = true) {v : Int32} (h : v = 0 ∨ v = 1) : Kq p k M (fm_sI N 180 k 0 v) :=
  kq_t q ⟨⟨q.1.1, tyb_sIb rfl q.1.2 h⟩, WK_s (by decide) (WK_I q.2.1.1.1 n rfl rfl v), fun _ he _ _ _ => ⟨rIa v he, rfl⟩⟩
theorem kq_L {f : Nat} (q : Kq p k M N) (n : fm_is N 65 65 k = true) (h : f = 181 ∨ f = 182) (v : Int64) : Kq p k M (fm_sL N f k 0 v) := by
  refine kq_t q ⟨⟨q.1.1, q.1.2⟩, WK_s ?_ (WK_L (f := f) q.2.1.1.1 n rfl ?_ v), fun e he g h1 h2 => ⟨rfl, rLa v he⟩⟩
  · rcases h with rfl | rfl <;> decide
  · rcases h with rfl | rfl <;> rfl
theorem kpR_q (T : Ty M) (W : Wf M) (n : fm_is M 65 65 k = true) (h : is = 0 ∨ is = 1) : Kq p k M (kpR k is at_ wr w rw_ ln M) := by
  unfold kpR
  exact kq_k (kq_k (kq_k (kq_L (kq_L (kq_b (kq_r T W) n h) n (Or.inl rfl) at_) n (Or.inr rfl) wr) n (Or.inl rfl) w) n (Or.inr (Or.inr rfl)) rw_) n (Or.inr (Or.inl rfl)) ln
theorem kpR_v : (kpR k is at_ wr w rw_ ln M).1 180 k 0 = is ∧ (kpR k is at_ wr w rw_ ln M).2.1 181 k 0 = at_ ∧ (kpR k is at_ wr w rw_ ln M).2.1 182 k 0 = wr ∧
    (kpR k is at_ wr w rw_ ln M).1 183 k 0 = w ∧ (kpR k is at_ wr w rw_ ln M).1 184 k 0 = ln ∧ (kpR k is at_ wr w rw_ ln M).1 185 k 0 = rw_ := by
  unfold kpR
  refine ⟨?_, ?_, ?_, ?_, ?_, ?_⟩
  · rw [rIf2 _ (by decide), rIf2 _ (by decide), rIf2 _ (by decide)]
    exact rIe is
  · show (fm_sL (fm_sL (fm_sI M 180 k 0 is) 181 k 0 at_) 182 k 0 wr).2.1 181 k 0 = at_
    rw [rLf2 _ (by decide), rLe]
  · show (fm_sL (fm_sL (fm_sI M 180 k 0 is) 181 k 0 at_) 182 k 0 wr).2.1 182 k 0 = wr
    rw [rLe]
  · rw [rIf2 _ (by decide), rIf2 _ (by decide), rIe]
  · rw [rIe]
  · rw [rIf2 _ (by decide), rIe]
theorem X46_keep (R : RamI r M) (np_ : fm_is M 75 75 p = true) (n : fm_is M 65 65 k = true) (h210 : M.2.2 210 p 0 = bd) (h18 : M.2.2 18 bd 0 = r) (hi : inR at_ 2) {l : Nat} (hl : ln = nI l) (hl8 : l ≤ 8) :
    HX46_keep p k at_ w rw_ ln M ∧ GX46_keep p k at_ w rw_ ln M = kpR k (bz (ul at_ % 4096 + l ≤ 4096)) at_ (cwr M r (pgi at_)) w rw_ ln M := by
  obtain ⟨o, ho⟩ : ∃ o, ul at_ = 2147483648 + o := ⟨ul at_ - 2147483648, by unfold inR at hi; omega⟩
  have hb : o < 4194304 := by unfold inR at hi; omega
  have n204 := tL_204 R.1.1 R.2.2.1
  have key : ∀ s1 : Int32, HX46_keep_22 p k at_ w rw_ ln k s1 M ∧ GX46_keep_22 p k at_ w rw_ ln k s1 M = kpR k s1 at_ (cwr M r (pgi at_)) w rw_ ln M := by
    intro s1
    obtain ⟨pg, e1, e2⟩ := X11_pageOf ho hb (fm_sL (fm_sI M 180 k 0 s1) 181 k 0 at_)
    have ei : pg.toNatClampNeg = pgi at_ := by
      rw [clamp, e2, if_pos (by omega)]
      unfold pgi
      omega
    constructor
    · unfold HX46_keep_22
      dsimp only
      rw [e1]
      show fm_in M (M.2.2 204 (M.2.2 18 (M.2.2 210 p 0) 0) 0) pg = true ∧ True
      rw [h210, h18]
      refine ⟨?_, trivial⟩
      have : pg = nI (o / 4096) := ui_inj (by rw [e2, ui_nI]; omega)
      rw [this]
      exact in_nI n204 (by omega) (by decide)
    · unfold GX46_keep_22 kpR
      dsimp only
      rw [e1]
      dsimp only
      rw [ei]
      show fm_sI (fm_sI (fm_sI (fm_sL (fm_sL (fm_sI M 180 k 0 s1) 181 k 0 at_) 182 k 0 (M.2.1 3 (M.2.2 204 (M.2.2 18 (M.2.2 210 p 0) 0) 0) (pgi at_))) 183 k 0 w) 185 k 0 rw_) 184 k 0 ln = _
      rw [h210, h18]
  have ov := pg_over at_ hl hl8
  unfold HX46_keep HX46_keep_0 GX46_keep GX46_keep_0
  by_cases c : ul at_ % 4096 + l ≤ 4096
  · have nv : ¬ 0 < lg_cmp ((at_ &&& Int64.ofInt 4095) + ln.toInt64) (Int64.ofInt 4096) := fun z => ov.mp z c
    rw [fi_neg nv, bz_t c]
    exact ⟨⟨fun z => absurd z nv, fun _ => (key _).1⟩, (key _).2⟩
  · have nv : 0 < lg_cmp ((at_ &&& Int64.ofInt 4095) + ln.toInt64) (Int64.ofInt 4096) := ov.mpr c
    rw [fi_pos nv, bz_f c]
    exact ⟨⟨fun _ => (key _).1, fun z => absurd nv z⟩, (key _).2⟩
end Kw
section Rk
variable {p h bd a fu rg u t hv kp fd m c1 f1 d1 w1 hq s dd x dk q rq r g sg bl cr np : Nat} {cf : Nat → Nat} {kn : Int32} {k : Nat} {o : Option Wt} {fs : Fs} {B Bk Vv : Nat} {K : Rg} {F T : Nat → Nat} {rt : Int32} {tb : Int64} {Mc Mt Nc : FM}
theorem relP_kq {j : Nat} (hj : j < 512) (Q : Kq p (Mc.2.2 3 kp j) Mc Nc) (hE : KcE r Bk (Mc.2.2 3 kp j) Nc) (R : RelP p h bd a fu cf rg u t hv kp fd m c1 f1 d1 w1 hq s dd x dk q rq r g sg bl cr np kn o fs B Bk Vv K F T rt tb Mc Mt) : RelP p h bd a fu cf rg u t hv kp fd m c1 f1 d1 w1 hq s dd x dk q rq r g sg bl cr np kn o fs B Bk Vv K F T rt tb Nc Mt ∧ RamQ r Mc Nc := by
  have RR := relP_ram R
  obtain ⟨PC, PT, OW, RI, RC, RF, RT, KP, RB⟩ := R
  have T0 := RR.1.1
  have W := RR.1.2.1
  have T' := RR.2.1.1
  have W' := RR.2.1.2.1
  have kc := Q.2.1
  have kt0 : WK [] Mt Mt := WK_r W'
  have TN := Q.1
  obtain ⟨R', q1, q2⟩ := wrR kc kt0 (by decide) (by decide) TN T' RR
  have E : Evo r 0 Mc Nc := evo_same (fun p _ => q1.2.2.2.2.1 p) q1.2.2.2.1
  refine ⟨⟨prC_k kc (by decide) (by decide) (by decide) RR.1 PC, PT, owW_k kc kt0 (by decide) (by decide) W T' W' PC.1.1 PT.1.1 OW, wrI kc kt0 (by decide) (by decide) T0 W T' W' RI, wrCt kc kt0 (by decide) (by decide) W W' TN T' RC,
    wrF kc kt0 (by decide) (by decide) W W' TN T' RF, wrTo (e := 0) kc kt0 (by decide) (by decide) T' W' R'.1 q1.2.1 E RT, ?_, wrB kc kt0 (by decide) (by decide) R' RB⟩, q1⟩
  have hi := fun i hi => kcP_is T0 KP (j := i) hi
  obtain ⟨n, l, ⟨p', np_, hp⟩, hk⟩ := KP
  have lk := wf_lt W (fm_ist rfl n)
  have lp := wf_lt W (fm_ist rfl np_)
  have sf : Sf Mc kp 216 := by rw [← hp]; exact sS_216 W np_
  have r3 := (ka kc sf (wf_n0 W (fm_ist rfl n)) (by decide) lk).2.2
  refine ⟨kis kc W rfl n, (congrFun (kt kc lk).2 0).trans l, ⟨p', kis kc W rfl np_, (congrFun (kf (f := 216) kc rfl (by decide) lp).2.2 0).trans hp⟩, fun i hi' => ?_⟩
  rw [r3]
  by_cases e : Mc.2.2 3 kp i = Mc.2.2 3 kp j
  · rw [e]
    exact hE
  · exact kcE_tr (e := 0) (fun f h1 h2 => Q.2.2 _ e f h1 h2) E RR.1 R'.1 (hk i hi')
end Rk
section Up
variable {p h bd a fu rg u t hv kp fd m c1 f1 d1 w1 hq s dd x dk q rq r g sg bl cr np : Nat} {cf : Nat → Nat} {kn : Int32} {o : Option Wt} {fs : Fs} {B B' Bk Bk' Vv Vv' i : Nat} {K : Rg} {F T : Nat → Nat} {rt : Int32} {tb : Int64} {Mc Mt M : FM}
theorem keC_up (h : KeC t r g Bk Vv M K F T i) (hb : Bk ≤ Bk') (hw : Vv ≤ Vv') : KeC t r g Bk' Vv' M K F T i := fun h0 => by
  obtain ⟨d, d1_, d2_, d3_⟩ := h h0
  refine ⟨d, by omega, d2_, fun hz => ?_⟩
  obtain ⟨es, D, l1, l2, l3, l4, l5⟩ := d3_ hz
  exact ⟨es, D, l1, l2, l3, fun j hj => ⟨(l4 j hj).1, by have := (l4 j hj).2.1; omega, (l4 j hj).2.2⟩, l5⟩
theorem relP_upw (hb : B ≤ B') (hk : Bk ≤ Bk') (hw : Vv ≤ Vv') (R : RelP p h bd a fu cf rg u t hv kp fd m c1 f1 d1 w1 hq s dd x dk q rq r g sg bl cr np kn o fs B Bk Vv K F T rt tb Mc Mt) : RelP p h bd a fu cf rg u t hv kp fd m c1 f1 d1 w1 hq s dd x dk q rq r g sg bl cr np kn o fs B' Bk' Vv' K F T rt tb Mc Mt := by
  obtain ⟨PC, PT, OW, RI, RC, RF, ⟨t1, t2, t3, t4, t5, t6⟩, ⟨k1, k2, k3, k4⟩, ⟨b1, ⟨b2, b3⟩, b4⟩⟩ := R
  exact ⟨PC, PT, OW, RI, RC, RF, ⟨t1, t2, t3, t4, t5, fun j hj => keC_up (t6 j hj) hk hw⟩, ⟨k1, k2, k3, fun j hj => kcE_w hk (k4 j hj)⟩, ⟨b1, ⟨relG_up b2 hb, b3⟩, b4⟩⟩
theorem relP_up (hb : B ≤ B') (hk : Bk ≤ Bk') (R : RelP p h bd a fu cf rg u t hv kp fd m c1 f1 d1 w1 hq s dd x dk q rq r g sg bl cr np kn o fs B Bk Vv K F T rt tb Mc Mt) : RelP p h bd a fu cf rg u t hv kp fd m c1 f1 d1 w1 hq s dd x dk q rq r g sg bl cr np kn o fs B' Bk' Vv K F T rt tb Mc Mt := relP_upw hb hk (Nat.le_refl _) R
end Up
