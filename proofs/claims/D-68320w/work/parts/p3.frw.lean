/-! what others write leaves a relation as it is: walks -/
set_option maxRecDepth 100000
def lW : List Nat := [269, 270, 271, 272, 273, 274, 275, 276, 277, 278, 279, 280, 281, 282, 283, 284, 285, 286, 287, 288, 289, 290, 291, 1278, 1279, 1284, 1286, 1291]
def lWt : List Nat := [423, 424, 425, 426, 427, 428, 1427, 1428]
theorem lW_m {f : Nat} (h1 : 269 ≤ f) (h2 : f ≤ 291) : Nat.ble 4 f = true ∧ fe_mem lW f = true := by
  refine ⟨Nat.ble_eq.mpr (by omega), fe_mem_of ?_⟩
  unfold lW
  simp only [List.mem_cons]
  omega
section Fw
variable {S Z O : Nat → Prop} {hx t r g w c i : Nat} {M N : FM} {K : Rg} {rt : Int32} {tb : Int64}
theorem wtC_fr (k : Wk S Z hx (fm_nx M) M N) (q : Qf S Z O lW) (oc : Oc O M) (oa : O t) (sh : ¬ S 247 ∧ ¬ S 1008) (RN : RamI r N) (h202 : N.1 202 r 0 = M.1 202 r 0) (V : WtC t r g M K rt tb) :
    WtC t r g N K rt tb ∧ N.1 285 g 0 = M.1 285 g 0 ∧ (∀ i, i < 64 → KeS t i M N) ∧ (StK t M → StK t N) := by
  obtain ⟨R, m2, n, hr, hg, vg, fa, ht, hrt⟩ := V
  have W := R.2.1
  have T := R.1
  have tt := fm_ist rfl n
  have fT := fun (f : Nat) (h1 : 269 ≤ f) (h2 : f ≤ 291) => kfO k q W oa tt (lW_m h1 h2).1 (lW_m h1 h2).2
  have e := fun (f : Nat) (h1 : 269 ≤ f) (h2 : f ≤ 291) => congrFun (fT f h1 h2).2.2 0
  have ng : fm_is M 90 90 g = true := by rw [← hg]; exact tN_288 T.1 n
  have og : O g := by
    have n288 := tN_288 T.1 n
    rw [← hg]
    exact oc_f (i := 0) oc oa n288 rfl rfl
  have fG := fun (f : Nat) (h1 : 269 ≤ f) (h2 : f ≤ 291) => kfO k q W og (fm_ist rfl ng) (lW_m h1 h2).1 (lW_m h1 h2).2
  have n284 := tN_284 T.1 ng
  have o284 := oc_f (i := 0) oc og n284 rfl rfl
  have r284 := (kaO k q W o284 (fm_ist rfl n284) (sS_284 W ng) rfl).2.2
  have ergn : ∀ i, rgn g i N = rgn g i M := fun i => by
    unfold rgn
    rw [(fG 284 (by decide) (by decide)).2.2, r284]
  have nr : ∀ i, i < 8 → fm_is M 89 89 (rgn g i M) = true := fun i hi => by
    have := tE_927 (i := nI i) T.1 n284 (in_nI (tL_284 T.1 ng) hi (by decide))
    rw [o_cl (by omega)] at this
    exact this
  have fR : ∀ i, i < 8 → ∀ f, 269 ≤ f → f ≤ 291 → N.1 f (rgn g i M) = M.1 f (rgn g i M) ∧ N.2.1 f (rgn g i M) = M.2.1 f (rgn g i M) ∧ N.2.2 f (rgn g i M) = M.2.2 f (rgn g i M) := fun i hi f h1 h2 => kfO k q W (oc_f (i := i) oc o284 (nr i hi) rfl rfl) (fm_ist rfl (nr i hi)) (lW_m h1 h2).1 (lW_m h1 h2).2
  have n286 := tN_286 T.1 n
  have o286 := oc_f (i := 0) oc oa n286 rfl rfl
  have r286 := (kaO k q W o286 (fm_ist rfl n286) (sS_286 W n) rfl).2.2
  have n291 := tN_291 T.1 n
  have o291 := oc_f (i := 0) oc oa n291 rfl rfl
  have r291 := (kaO k q W o291 (fm_ist rfl n291) (sS_291 W n) rfl).2.2
  have ek : ∀ i, kpt t i N = kpt t i M := fun i => by
    unfold kpt
    rw [e 291 (by decide) (by decide), r291]
  have nk : ∀ i, i < 64 → fm_is M 88 88 (kpt t i M) = true := fun i hi => by
    have := tE_926 (i := nI i) T.1 n291 (in_nI (tL_291 T.1 n) hi (by decide))
    rw [o_cl (by omega)] at this
    exact this
  have l287 : M.2.2 287 t 0 < fm_nx M := rf_lt T.1 W (by decide)
  have fK : ∀ i, i < 64 → ∀ f, 269 ≤ f → f ≤ 291 → N.1 f (kpt t i M) = M.1 f (kpt t i M) ∧ N.2.1 f (kpt t i M) = M.2.1 f (kpt t i M) ∧ N.2.2 f (kpt t i M) = M.2.2 f (kpt t i M) := fun i hi f h1 h2 => kfO k q W (oc_f (i := i) oc o291 (nk i hi) rfl rfl) (fm_ist rfl (nk i hi)) (lW_m h1 h2).1 (lW_m h1 h2).2
  refine ⟨⟨RN, h202.trans m2, kis k W rfl n, ?_, (e 288 (by decide) (by decide)).trans hg, ?_, ?_, ?_, ?_⟩, congrFun (fG 285 (by decide) (by decide)).1 0, ?_, ?_⟩
  · rw [e 287 (by decide) (by decide), congrFun (kf k (f := 247) rfl sh.1 l287).2.2 0]
    exact hr
  · intro i hi
    rw [ergn i, (fR i hi 280 (by decide) (by decide)).1, (fR i hi 281 (by decide) (by decide)).2.1, (fR i hi 282 (by decide) (by decide)).2.1, (fR i hi 283 (by decide) (by decide)).2.1]
    exact vg i hi
  · intro i hi
    obtain ⟨f1, f2, f3, f4⟩ := fa i hi
    have lv : M.2.2 3 (M.2.2 286 t 0) i < fm_nx M := rf_lt T.1 W (by decide)
    rw [e 286 (by decide) (by decide), r286]
    have kk := kt k lv
    have ev := (k.2.2.2 3 _ lv (by decide) (fun z => by
      unfold lcn at z
      rw [if_pos rfl, f4] at z
      exact absurd z sh.2)).1
    rw [kk.1, kk.2, ev]
    exact ⟨f1, f2, f3, f4⟩
  · rw [(fT 289 (by decide) (by decide)).2.1]
    exact ht
  · rw [(fT 290 (by decide) (by decide)).1]
    exact hrt
  · intro i hi
    have nK := nk i hi
    have oK := oc_f (i := i) oc o291 nK rfl rfl
    have n278 := tN_278 T.1 nK
    have n279 := tN_279 T.1 nK
    have r278 := (kaO k q W (oc_a oc W oK n278 (sS_278 W nK) rfl rfl rfl rfl) (fm_ist rfl n278) (sS_278 W nK) rfl).2.1
    have r279 := (kaO k q W (oc_a oc W oK n279 (sS_279 W nK) rfl rfl rfl rfl) (fm_ist rfl n279) (sS_279 W nK) rfl).2.1
    exact ⟨ek i, fun f h1 h2 => ⟨congrFun (fK i hi f h1 (by omega)).1 0, congrFun (fK i hi f h1 (by omega)).2.1 0⟩, congrFun (fK i hi 278 (by decide) (by decide)).2.2 0, congrFun (fK i hi 279 (by decide) (by decide)).2.2 0,
      fun j => ⟨congrFun r278 j, congrFun r279 j⟩⟩
  · intro st i j hi hj
    have := st i j hi hj
    rw [ek i, ek j, (fK i hi 278 (by decide) (by decide)).2.2, (fK j hj 278 (by decide) (by decide)).2.2, (fK i hi 279 (by decide) (by decide)).2.2, (fK j hj 279 (by decide) (by decide)).2.2]
    exact this
theorem wtV_fr (k : Wk S Z hx (fm_nx M) M N) (q : Qf S Z O lWt) (oc : Oc O M) (oa : O w) (T : Ty M) (W : Wf M) (V : WtV w c M K rt tb) : WtV w c N K rt tb := by
  obtain ⟨n, hc, nc, vg, h5, h6, h4⟩ := V
  have tw := fm_ist rfl n
  have n427 := tN_427 T.1 n
  have n428 := tN_428 T.1 n
  have o427 := oc_a oc W oa n427 (sS_427 W n) rfl rfl rfl rfl
  have o428 := oc_a oc W oa n428 (sS_428 W n) rfl rfl rfl rfl
  have r427 := (kaO k q W o427 (fm_ist rfl n427) (sS_427 W n) rfl).1
  have r428 := (kaO k q W o428 (fm_ist rfl n428) (sS_428 W n) rfl).2.1
  have e427 := congrFun (kfO k q W oa tw (f := 427) rfl rfl).2.2 0
  have e428 := congrFun (kfO k q W oa tw (f := 428) rfl rfl).2.2 0
  refine ⟨kis k W rfl n, (congrFun (kfO k q W oa tw (f := 423) rfl rfl).2.2 0).trans hc, kis k W rfl nc, ?_, (congrFun (kfO k q W oa tw (f := 425) rfl rfl).1 0).trans h5, (congrFun (kfO k q W oa tw (f := 426) rfl rfl).1 0).trans h6, (congrFun (kfO k q W oa tw (f := 424) rfl rfl).2.1 0).trans h4⟩
  unfold VGt
  rw [e427, e428, r427, r428]
  exact vg
end Fw
