/-! what others write leaves a relation as it is: control registers -/
set_option maxRecDepth 100000
def lC : List Nat := [24, 25, 26, 27, 28, 29, 30, 31, 32, 33, 34, 35, 36, 37, 40, 41, 42, 43, 44, 45, 46, 47, 48, 49, 50, 51, 52, 53, 54, 1024, 1025]
def lCt : List Nat := [359, 360, 361, 362, 363, 1361, 1362]
theorem lC_m {f : Nat} (h : (24 ≤ f ∧ f ≤ 37) ∨ (40 ≤ f ∧ f ≤ 54)) : Nat.ble 4 f = true ∧ fe_mem lC f = true := by
  refine ⟨Nat.ble_eq.mpr (by omega), fe_mem_of ?_⟩
  unfold lC
  simp only [List.mem_cons]
  omega
section Fc
variable {S Z O S' Z' O' : Nat → Prop} {hx hx' u d n : Nat} {w kn : Int32} {M N Mc Nc Mt Nt : FM}
theorem tagk (k : Wk S Z hx (fm_nx M) M N) (T : Ty M) (W : Wf M) {f a i : Nat} (hf : Nat.ble 3 f = true) : N.2.2 0 (M.2.2 f a i) 0 = M.2.2 0 (M.2.2 f a i) 0 :=
  congrFun (kt k (rf_lt T.1 W (Nat.le_of_ble_eq_true hf))).1 0
/-- the table stays; what stands in it is u's -/
theorem tbl_k (k : Wk S Z hx (fm_nx M) M N) (q : Qf S Z O lC) (oc : Oc O M) (oa : O u) (T : Ty M) (W : Wf M) (nu : fm_is M 12 12 u = true) :
    (∀ f, 24 ≤ f → f ≤ 37 → N.1 f u = M.1 f u ∧ N.2.1 f u = M.2.1 f u ∧ N.2.2 f u = M.2.2 f u) ∧ (∀ n, tbl N u n = tbl M u n) ∧
    (∀ n t, M.2.2 0 (tbl M u n) 0 = t → 12 ≤ t → t ≤ 20 → O (tbl M u n) ∧ ∀ f, 40 ≤ f → f ≤ 54 → N.1 f (tbl M u n) 0 = M.1 f (tbl M u n) 0 ∧ N.2.1 f (tbl M u n) 0 = M.2.1 f (tbl M u n) 0 ∧ N.2.2 f (tbl M u n) 0 = M.2.2 f (tbl M u n) 0) ∧
    N.1 3 (M.2.2 24 u 0) = M.1 3 (M.2.2 24 u 0) := by
  have tu := fm_ist rfl nu
  have fU := fun (f : Nat) (h1 : 24 ≤ f) (h2 : f ≤ 37) => kfO k q W oa tu (lC_m (Or.inl ⟨h1, h2⟩)).1 (lC_m (Or.inl ⟨h1, h2⟩)).2
  have n25 := tN_25 T.1 nu
  have o25 := oc_f (i := 0) oc oa n25 rfl rfl
  have r25 := (kaO k q W o25 (fm_ist rfl n25) (sS_25 W nu) rfl).2.2
  have n24 := tN_24 T.1 nu
  have o24 := oc_a oc W oa n24 (sS_24 W nu) rfl rfl rfl rfl
  refine ⟨fU, fun n => ?_, fun n t ht h1 h2 => ?_, (kaO k q W o24 (fm_ist rfl n24) (sS_24 W nu) rfl).1⟩
  · unfold tbl
    rw [(fU 25 (by decide) (by decide)).2.2, r25]
  · have g : fm_is M 12 20 (tbl M u n) = true := fm_isi (by omega) (by omega)
    have on : O (tbl M u n) := oc_f oc o25 g rfl rfl
    refine ⟨on, fun f f1 f2 => ?_⟩
    obtain ⟨x1, x2, x3⟩ := kfO k q W on (fm_ist rfl g) (lC_m (Or.inr ⟨f1, f2⟩)).1 (lC_m (Or.inr ⟨f1, f2⟩)).2
    exact ⟨congrFun x1 0, congrFun x2 0, congrFun x3 0⟩
theorem cT_14 : ∀ q ∈ cH, 14 ≤ q.2.1 ∧ q.2.1 ≤ 17 := by decide
theorem stC_k (k : Wk S Z hx (fm_nx M) M N) (q : Qf S Z O lC) (oc : Oc O M) (oa : O u) (T : Ty M) (W : Wf M) (nu : fm_is M 12 12 u = true) (h : StC u M) : StC u N := by
  obtain ⟨fU, et, eo, -⟩ := tbl_k k q oc oa T W nu
  have eu := fun (f : Nat) (h1 : 24 ≤ f) (h2 : f ≤ 37) => congrFun (fU f h1 h2).2.2 0
  have t1 : ∀ n, N.2.2 0 (tbl M u n) 0 = M.2.2 0 (tbl M u n) 0 := fun n => tagk k T W rfl
  have t26 : N.2.2 0 (M.2.2 26 u 0) 0 = M.2.2 0 (M.2.2 26 u 0) 0 := tagk k T W rfl
  have t36 : N.2.2 0 (M.2.2 36 u 0) 0 = M.2.2 0 (M.2.2 36 u 0) 0 := tagk k T W rfl
  have t46 : N.2.2 0 (M.2.2 46 (tbl M u 256) 0) 0 = M.2.2 0 (M.2.2 46 (tbl M u 256) 0) 0 := tagk k T W rfl
  have n32 := tN_32 T.1 nu
  have n33 := tN_33 T.1 nu
  have o32 := oc_f (i := 0) oc oa n32 rfl rfl
  have o33 := oc_f (i := 0) oc oa n33 rfl rfl
  have b32 := fun (f : Nat) (h1 : 40 ≤ f) (h2 : f ≤ 54) => congrFun (kfO k q W o32 (fm_ist rfl n32) (lC_m (Or.inr ⟨h1, h2⟩)).1 (lC_m (Or.inr ⟨h1, h2⟩)).2).2.2 0
  have b33 := fun (f : Nat) (h1 : 40 ≤ f) (h2 : f ≤ 54) => congrFun (kfO k q W o33 (fm_ist rfl n33) (lC_m (Or.inr ⟨h1, h2⟩)).1 (lC_m (Or.inr ⟨h1, h2⟩)).2).2.2 0
  obtain ⟨s1, s2, s3, s4, s5, s6, s7, s8, s9, ⟨s10, s11, s12, s13, s14, s15⟩, s16, s17, s18⟩ := h
  have e256 := (eo 256 19 s7.1 (by decide) (by decide)).2
  have e260 := (eo 260 19 s8.1 (by decide) (by decide)).2
  have e324 := (eo 324 19 s9.1 (by decide) (by decide)).2
  have g1 := (eo 3072 18 s10 (by decide) (by decide)).2
  have g2 := (eo 3073 18 s12 (by decide) (by decide)).2
  have g3 := (eo 3074 18 s14 (by decide) (by decide)).2
  unfold StC
  simp only [et, t1]
  rw [eu 26 (by decide) (by decide), eu 27 (by decide) (by decide), eu 28 (by decide) (by decide), eu 29 (by decide) (by decide), eu 30 (by decide) (by decide), eu 31 (by decide) (by decide), eu 32 (by decide) (by decide), eu 33 (by decide) (by decide),
    eu 34 (by decide) (by decide), eu 35 (by decide) (by decide), eu 36 (by decide) (by decide), b32 49 (by decide) (by decide), b32 50 (by decide) (by decide), b32 51 (by decide) (by decide), b32 52 (by decide) (by decide), b32 53 (by decide) (by decide), b32 54 (by decide) (by decide),
    b33 49 (by decide) (by decide), b33 50 (by decide) (by decide), b33 51 (by decide) (by decide), b33 52 (by decide) (by decide), b33 53 (by decide) (by decide), b33 54 (by decide) (by decide),
    (e256 45 (by decide) (by decide)).2.2, (e256 46 (by decide) (by decide)).2.2, (e260 45 (by decide) (by decide)).2.2, (e260 46 (by decide) (by decide)).2.2, (e324 45 (by decide) (by decide)).2.2, (e324 46 (by decide) (by decide)).2.2,
    (g1 44 (by decide) (by decide)).2.2, (g2 44 (by decide) (by decide)).2.2, (g3 44 (by decide) (by decide)).2.2, t26, t36, t46]
  exact ⟨s1, s2, s3, s4, s5, s6, s7, s8, s9, ⟨s10, s11, s12, s13, s14, s15⟩, s16, s17, s18⟩
theorem mkC_k (k : Wk S Z hx (fm_nx M) M N) (q : Qf S Z O lC) (oc : Oc O M) (oa : O u) (T : Ty M) (W : Wf M) (nu : fm_is M 12 12 u = true) (st : StC u M) (h : MkC u kn M) : MkC u kn N := by
  obtain ⟨fU, et, eo, r24⟩ := tbl_k k q oc oa T W nu
  obtain ⟨s1, s2, s3, s4, s5, s6, s7, s8, s9, ⟨s10, s11, s12, s13, s14, s15⟩, s16, s17, s18⟩ := st
  have e256 := eo 256 19 s7.1 (by decide) (by decide)
  have e260 := (eo 260 19 s8.1 (by decide) (by decide)).2
  have e324 := (eo 324 19 s9.1 (by decide) (by decide)).2
  have n46 : fm_is M 13 13 (M.2.2 46 (tbl M u 256) 0) = true := fm_isi (by rw [s7.2.2]; decide) (by rw [s7.2.2]; decide)
  have o46 := oc_f (i := 0) oc e256.1 n46 rfl rfl
  have e46 := congrFun (kfO k q W o46 (fm_ist rfl n46) (f := 40) rfl rfl).2.1 0
  have eH : ∀ p ∈ cH, N.2.1 42 (tbl M u p.1) 0 = M.2.1 42 (tbl M u p.1) 0 := fun p hp => ((eo p.1 _ (s1 p hp) (by have := cT_14 p hp; omega) (by have := cT_14 p hp; omega)).2 42 (by decide) (by decide)).2.1
  have eK : ∀ p ∈ cK, N.2.1 40 (tbl M u p) 0 = M.2.1 40 (tbl M u p) 0 := fun p hp => ((eo p 13 (s16 p hp).1 (by decide) (by decide)).2 40 (by decide) (by decide)).2.1
  have e24 := congrFun (fU 24 (by decide) (by decide)).2.2 0
  obtain ⟨m1, m2, m3, m4, m5, m6, m7, m8⟩ := h
  unfold MkC
  simp only [et]
  rw [e24, r24, (e256.2 46 (by decide) (by decide)).2.2, e46, (e256.2 47 (by decide) (by decide)).2.1, (e256.2 48 (by decide) (by decide)).2.1, (e260 47 (by decide) (by decide)).2.1, (e260 48 (by decide) (by decide)).2.1,
    (e324 47 (by decide) (by decide)).2.1, (e324 48 (by decide) (by decide)).2.1, eK 769 (by decide), eK 3860 (by decide)]
  exact ⟨fun p hp => (eH p hp).trans (m1 p hp), m2, m3, m4, m5, fun p hp => (eK p (by revert p; decide)).trans (m6 p hp), m7, m8⟩
theorem relC_k (k : Wk S Z hx (fm_nx Mc) Mc Nc) (q : Qf S Z O lC) (oc : Oc O Mc) (oa : O u) (W : Wf Mc) (Tn : Ty Nc)
    (k' : Wk S' Z' hx' (fm_nx Mt) Mt Nt) (q' : Qf S' Z' O' lCt) (oc' : Oc O' Mt) (oa' : O' d) (W' : Wf Mt) (Tn' : Ty Nt) (h : RelC u d kn Mc Mt) : RelC u d kn Nc Nt := by
  obtain ⟨⟨T, nu, st, mk⟩, ⟨T', nd, vz, vi⟩, v1, vl, vm, vt⟩ := h
  obtain ⟨fU, et, eo, r24⟩ := tbl_k k q oc oa T W nu
  have td := fm_ist rfl nd
  have n361 := tN_361 T'.1 nd
  have n362 := tN_362 T'.1 nd
  have o361 := oc_a oc' W' oa' n361 (sS_361 W' nd) rfl rfl rfl rfl
  have o362 := oc_a oc' W' oa' n362 (sS_362 W' nd) rfl rfl rfl rfl
  have e361 := congrFun (kfO k' q' W' oa' td (f := 361) rfl rfl).2.2 0
  have e362 := congrFun (kfO k' q' W' oa' td (f := 362) rfl rfl).2.2 0
  have e359 := congrFun (kfO k' q' W' oa' td (f := 359) rfl rfl).1 0
  have e360 := congrFun (kfO k' q' W' oa' td (f := 360) rfl rfl).1 0
  have e363 := congrFun (kfO k' q' W' oa' td (f := 363) rfl rfl).2.1 0
  have r361 := (kaO k' q' W' o361 (fm_ist rfl n361) (sS_361 W' nd) rfl).2.1
  have r362 := (kaO k' q' W' o362 (fm_ist rfl n362) (sS_362 W' nd) rfl).1
  have eh : ∀ n, ht Nt d n = ht Mt d n := fun n => by unfold ht; rw [e361, r361]
  have n36 := tN_36 T.1 nu
  have o36 := oc_f (i := 0) oc oa n36 rfl rfl
  have e36 := congrFun (kfO k q W o36 (fm_ist rfl n36) (f := 41) rfl rfl).2.1 0
  have s1 := st.1
  refine ⟨⟨Tn, kis k W rfl nu, stC_k k q oc oa T W nu st, mkC_k k q oc oa T W nu st mk⟩, ⟨Tn', kis k' W' rfl nd, ?_, ?_⟩, ?_, ?_, ?_, ?_⟩
  · unfold VZ
    simp only [eh, e359]
    exact vz
  · unfold VI
    simp only [eh]
    exact vi
  · intro p hp
    rw [et, eh, ((eo p.1 _ (s1 p hp) (by have := cT_14 p hp; omega) (by have := cT_14 p hp; omega)).2 41 (by decide) (by decide)).2.1]
    exact v1 p hp
  · unfold VL
    rw [e362, r362, et, ((eo 836 15 (s1 (836, 15, Int64.ofInt 546) (by decide)) (by decide) (by decide)).2 43 (by decide) (by decide)).2.1]
    exact vl
  · rw [congrFun (fU 37 (by decide) (by decide)).1 0, e360]
    exact vm
  · rw [congrFun (fU 36 (by decide) (by decide)).2.2 0, e36, e363]
    exact vt
end Fc
