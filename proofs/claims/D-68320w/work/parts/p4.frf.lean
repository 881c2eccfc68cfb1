/-! what others write leaves a relation as it is: floats -/
set_option maxRecDepth 100000
def lF : List Nat := [91, 92, 93, 94, 95, 96, 97, 98, 99, 100, 101, 102, 103, 104, 105, 106, 107, 108, 109, 110, 111, 112, 117, 1093, 1098]
def lFt : List Nat := [367, 368, 369, 370, 371, 372, 373, 374, 375, 376, 377, 378, 379, 380, 1367, 1372, 1373, 1374]
theorem lF_m {f : Nat} (h : (91 ≤ f ∧ f ≤ 112) ∨ f = 117) : Nat.ble 4 f = true ∧ fe_mem lF f = true := by
  refine ⟨Nat.ble_eq.mpr (by omega), fe_mem_of ?_⟩
  unfold lF
  simp only [List.mem_cons]
  omega
theorem lFt_m {f : Nat} (h1 : 367 ≤ f) (h2 : f ≤ 380) : Nat.ble 4 f = true ∧ fe_mem lFt f = true := by
  refine ⟨Nat.ble_eq.mpr (by omega), fe_mem_of ?_⟩
  unfold lFt
  simp only [List.mem_cons]
  omega
section Ff
variable {S Z O : Nat → Prop} {hx u rg f : Nat} {c : Nat → Nat} {M N : FM} {s : Fs}
theorem flU_k (k : Wk S Z hx (fm_nx M) M N) (q : Qf S Z O lF) (oc : Oc O M) (oa : O u) (sh : ∀ x, fe_mem [10, 11, 12, 113, 1099, 1100, 1101] x = true → ¬ S x) (W : Wf M) (Tn : Ty N) (h : FlU u c rg M) :
    FlU u c rg N ∧ (VFc u c rg M s → VFc u c rg N s) := by
  obtain ⟨⟨T, n, dst, tk, fo, c12, n12⟩, od, ⟨h93, l93⟩, l98, ⟨l99, m99⟩, ⟨l100, m100⟩, ⟨l101, m101, n2, n3⟩, n102, n103, n104⟩ := h
  have tu := fm_ist rfl n
  have fU := fun (f : Nat) (h : 91 ≤ f ∧ f ≤ 112) => kfO k q W oa tu (lF_m (Or.inl h)).1 (lF_m (Or.inl h)).2
  have e := fun (f : Nat) (h : 91 ≤ f ∧ f ≤ 112) => congrFun (fU f h).2.2 0
  have nc : ∀ k, k < 4 → O (c k) := fun k hk => by
    obtain ⟨t1, t2, t3, t4⟩ := tk k hk
    rw [← t1] at t3 ⊢
    refine oc_f (i := 0) oc oa t3 ?_ rfl
    exact Nat.ble_eq.mpr (by omega)
  have n98 := tN_98 T.1 n
  have o98 := oc_f (i := 0) oc oa n98 rfl rfl
  have r98 := (kaO k q W o98 (fm_ist rfl n98) (sS_98 W n) rfl).2.2
  have nf : ∀ t, t < 2 → O (c (10 + t)) := fun t ht => by
    obtain ⟨t1, t2, t3, t4, t5⟩ := fo t ht
    rw [← t1] at t4 ⊢
    exact oc_f oc o98 t4 rfl rfl
  have o12 : O (c 12) := by
    rw [← c12] at n12 ⊢
    exact oc_f (i := 0) oc oa n12 rfl rfl
  have n93 := tN_93 T.1 n
  have o93 := oc_a oc W oa n93 (sS_93 W n) rfl rfl rfl rfl
  have r93 := (kaO k q W o93 (fm_ist rfl n93) (sS_93 W n) rfl).2.1
  have lt := fun {a : Nat} {lo hi : Nat} (hlo : Nat.ble 1 lo = true) (g : fm_is M lo hi a = true) => wf_lt W (fm_ist hlo g)
  have ks := fun {a : Nat} (h : a < fm_nx M) (f : Nat) (hf : Nat.ble 4 f = true) (hs : ¬ S f) => kf k hf hs h
  have n99 := tN_99 T.1 n
  have n100 := tN_100 T.1 n
  have n101 := tN_101 T.1 n
  have r99 := (ka k (sS_99 W n) (wf_n0 W (fm_ist rfl n99)) (sh 1099 rfl) (lt rfl n99)).2.2
  have r100 := (ka k (sS_100 W n) (wf_n0 W (fm_ist rfl n100)) (sh 1100 rfl) (lt rfl n100)).2.2
  have r101 := (ka k (sS_101 W n) (wf_n0 W (fm_ist rfl n101)) (sh 1101 rfl) (lt rfl n101)).2.2
  have len := fun {a : Nat} (h : a < fm_nx M) => congrFun (kt k h).2 0
  have nx := W.2.2.2
  have f91 := kfO k q W o12 (fm_ist rfl n12) (f := 91) rfl rfl
  have f92 := kfO k q W o12 (fm_ist rfl n12) (f := 92) rfl rfl
  refine ⟨⟨⟨Tn, kis k W rfl n, dst, fun j hj => ?_, fun t ht => ?_, (e 94 (by decide)).trans c12, kis k W rfl n12⟩, fun i hi => ?_, ⟨(e 93 (by decide)).trans h93, ?_⟩, ?_, ⟨?_, fun j hj => ?_⟩, ⟨?_, fun j hj => ?_⟩, ⟨?_, fun j hj => ?_, ?_, ?_⟩, ?_, ?_, ?_⟩, fun v => ?_⟩
  · obtain ⟨t1, t2, t3, t4⟩ := tk j hj
    exact ⟨(e (105 + j) (by omega)).trans t1, (congrFun (kfO k q W (nc j hj) (fm_ist rfl t3) (lF_m (f := 117) (Or.inr rfl)).1 (lF_m (Or.inr rfl)).2).2.2 0).trans t2, kis k W rfl t3, kis k W rfl t4⟩
  · obtain ⟨t1, t2, ⟨t3, t3', t3''⟩, t4, t5⟩ := fo t ht
    have ff := fun (f : Nat) (h : 91 ≤ f ∧ f ≤ 112) => kfO k q W (nf t ht) (fm_ist rfl t4) (lF_m (Or.inl h)).1 (lF_m (Or.inl h)).2
    refine ⟨?_, (congrFun (ff 112 (by decide)).2.2 0).trans t2, ⟨(congrFun (ff 109 (by decide)).1 0).trans t3, (congrFun (ff 110 (by decide)).1 0).trans t3', (congrFun (ff 111 (by decide)).1 0).trans t3''⟩, kis k W rfl t4, kis k W rfl t5⟩
    rw [e 98 (by decide), r98]
    exact t1
  · exact ⟨(congrFun (ks (by omega) 10 rfl (sh 10 rfl)).1 0).trans (od i hi).1, (congrFun (ks (by omega) 10 rfl (sh 10 rfl)).1 0).trans (od i hi).2⟩
  · rw [← h93, len (lt rfl n93), h93]
    exact l93
  · rw [e 98 (by decide), len (lt rfl n98)]
    exact l98
  · rw [e 99 (by decide), len (lt rfl n99)]
    exact l99
  · rw [e 99 (by decide), r99]
    exact m99 j hj
  · rw [e 100 (by decide), len (lt rfl n100)]
    exact l100
  · obtain ⟨p1, p2, p3⟩ := m100 j hj
    rw [e 100 (by decide), r100]
    exact ⟨p1, (congrFun (ks (by omega) 11 rfl (sh 11 rfl)).1 0).trans p2, (congrFun (ks (by omega) 12 rfl (sh 12 rfl)).1 0).trans p3⟩
  · rw [e 101 (by decide), len (lt rfl n101)]
    exact l101
  · obtain ⟨p1, p2⟩ := m101 j hj
    rw [e 101 (by decide), r101]
    exact ⟨kis k W rfl p1, (congrFun (ks (lt rfl p1) 113 rfl (sh 113 rfl)).1 0).trans p2⟩
  · rw [e 101 (by decide), r101]
    exact kis k W rfl n2
  · rw [e 101 (by decide), r101]
    exact kis k W rfl n3
  · rw [e 102 (by decide)]
    exact kis k W rfl n102
  · rw [e 103 (by decide)]
    exact kis k W rfl n103
  · rw [e 104 (by decide)]
    exact kis k W rfl n104
  · obtain ⟨v1, v2, v3, v4, v5⟩ := v
    rw [h93] at r93
    unfold VFc
    rw [r93, f91.1, f92.1, (fU 95 (by decide)).1, (fU 96 (by decide)).1, (fU 97 (by decide)).2.1]
    exact ⟨v1, v2, v3, v4, v5⟩
theorem flO_k (k : Wk S Z hx (fm_nx M) M N) (q : Qf S Z O lFt) (oc : Oc O M) (oa : O f) (W : Wf M) (Tn : Ty N) (h : FlO f M) : FlO f N ∧ (VFt f M s → VFt f N s) := by
  obtain ⟨T, n, dst, ⟨a1, a2⟩, ⟨b1, b2⟩, d1, d2⟩ := h
  have tu := fm_ist rfl n
  have fU := fun (g : Nat) (h1 : 367 ≤ g) (h2 : g ≤ 380) => kfO k q W oa tu (lFt_m h1 h2).1 (lFt_m h1 h2).2
  have e := fun (g : Nat) (h1 : 367 ≤ g) (h2 : g ≤ 380) => congrFun (fU g h1 h2).2.2 0
  have n367 := tN_367 T.1 n
  have n372 := tN_372 T.1 n
  have n373 := tN_373 T.1 n
  have n374 := tN_374 T.1 n
  have r367 := (kaO k q W (oc_a oc W oa n367 (sS_367 W n) rfl rfl rfl rfl) (fm_ist rfl n367) (sS_367 W n) rfl).2.1
  have r372 := (kaO k q W (oc_a oc W oa n372 (sS_372 W n) rfl rfl rfl rfl) (fm_ist rfl n372) (sS_372 W n) rfl).1
  have r373 := (kaO k q W (oc_a oc W oa n373 (sS_373 W n) rfl rfl rfl rfl) (fm_ist rfl n373) (sS_373 W n) rfl).1
  have r374 := (kaO k q W (oc_a oc W oa n374 (sS_374 W n) rfl rfl rfl rfl) (fm_ist rfl n374) (sS_374 W n) rfl).1
  have hL : ∀ g, g ∈ flL → 367 ≤ g ∧ g ≤ 380 := by decide
  refine ⟨⟨Tn, kis k W rfl n, fun g hg g' hg' hne => ?_, ?_, ?_, ?_⟩, fun v => ?_⟩
  · rw [e g (hL g hg).1 (hL g hg).2, e g' (hL g' hg').1 (hL g' hg').2]
    exact dst g hg g' hg' hne
  · rw [e 372 (by decide) (by decide), r372]
    exact ⟨a1, a2⟩
  · rw [e 373 (by decide) (by decide), r373]
    exact ⟨b1, b2⟩
  · rw [e 374 (by decide) (by decide), r374]
    exact ⟨d1, d2⟩
  · unfold VFt at *
    rw [e 367 (by decide) (by decide), r367, (fU 368 (by decide) (by decide)).1, (fU 369 (by decide) (by decide)).1, (fU 371 (by decide) (by decide)).1, (fU 370 (by decide) (by decide)).2.1]
    exact v
end Ff
