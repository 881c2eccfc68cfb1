/-! what others write leaves a relation as it is: signals, the disk -/
set_option maxRecDepth 100000
def lG : List Nat := [223, 224, 225, 226, 227, 228, 229, 230, 231, 232, 233, 234, 235, 236, 237, 238, 240, 241, 242, 243, 244, 245, 246, 1224, 1225, 1226, 1230, 1233, 1235, 1243, 1245, 1246]
def lGt : List Nat := [394, 395, 396, 397, 398, 399, 400, 401, 402, 403, 404, 405, 406, 407, 408, 409, 410, 411, 412, 413, 1396, 1397, 1399, 1400, 1401, 1402, 1403, 1404, 1405, 1406, 1410, 1412]
def lD : List Nat := [63, 64, 65, 66, 69, 70, 71, 72, 73, 74, 75, 76, 77, 1069]
def lDt : List Nat := [325, 326, 327, 328, 329, 330, 331, 332, 333, 334, 335, 336, 338, 1327, 1334]
section Fg
variable {S Z S' Z' : Nat → Prop} {hx hx' s m p B : Nat} {M N Mc Nc Mt Nt : FM} {soft : Nat → Int32} {num : Nat → Int64} {K : Kr} {Q : Sr}
theorem lG_m {f : Nat} (h : (223 ≤ f ∧ f ≤ 238) ∨ (240 ≤ f ∧ f ≤ 246)) : Nat.ble 4 f = true ∧ (f ≠ 239 → fe_mem lG f = true) := by
  refine ⟨Nat.ble_eq.mpr (by omega), fun _ => fe_mem_of ?_⟩
  unfold lG
  simp only [List.mem_cons]
  omega
theorem lGt_m {f : Nat} (h : 394 ≤ f ∧ f ≤ 413) : Nat.ble 4 f = true ∧ fe_mem lGt f = true := by
  refine ⟨Nat.ble_eq.mpr (by omega), fe_mem_of ?_⟩
  unfold lGt
  simp only [List.mem_cons]
  omega
theorem vUc_k (k : Wk S Z hx (fm_nx M) M N) (hS : ∀ x, fe_mem lG x = true → ¬ S x) (T : Ty M) (W : Wf M) (n : fm_is M 79 79 s = true) (h : VUc s p M soft num K Q) : VUc s p N soft num K Q := by
  obtain ⟨⟨t1, t2, t3⟩, ⟨c1, c2, c3, c4, c5, c6⟩, c7, ⟨s1, s2, ⟨hd, s3, s4, s5⟩, s6, s7, s8, s9, s10⟩, d1, d2, d3⟩ := h
  have e := fun {a lo hi : Nat} (hlo : Nat.ble 1 lo = true) (g : fm_is M lo hi a = true) (f : Nat) (h : (223 ≤ f ∧ f ≤ 238) ∨ (240 ≤ f ∧ f ≤ 246)) => kf (f := f) k (lG_m h).1 (hS f ((lG_m h).2 (by omega))) (wf_lt W (fm_ist hlo g))
  have row := fun {a lo hi x : Nat} (hlo : Nat.ble 1 lo = true) (g : fm_is M lo hi a = true) (sf : Sf M a x) (hx : fe_mem lG (1000 + x) = true) => ka k sf (wf_n0 W (fm_ist hlo g)) (hS _ hx) (wf_lt W (fm_ist hlo g))
  have nT := tN_240 T.1 n
  have nC := tN_241 T.1 n
  have nL := tN_242 T.1 n
  have nD := tN_243 T.1 n
  have eS := fun (f : Nat) (h : (223 ≤ f ∧ f ≤ 238) ∨ (240 ≤ f ∧ f ≤ 246)) => congrFun (e rfl n f h).2.2 0
  have eT := e rfl nT
  have eC := e rfl nC
  have eL := e rfl nL
  unfold VUc VTc VKc VSc
  rw [eS 240 (by decide), eS 241 (by decide), eS 242 (by decide), eS 243 (by decide), (eT 244 (by decide)).1, (eT 245 (by decide)).2.2, (eT 246 (by decide)).2.2, (row rfl (tN_245 T.1 nT) (sS_245 W nT) rfl).1, (row rfl (tN_246 T.1 nT) (sS_246 W nT) rfl).2.1,
    (eC 227 (by decide)).1, (eC 228 (by decide)).1, (eC 229 (by decide)).1, (eC 223 (by decide)).1, (eC 224 (by decide)).2.2, (eC 225 (by decide)).2.2, (eC 226 (by decide)).2.2, (row rfl (tN_224 T.1 nC) (sS_224 W nC) rfl).1, (row rfl (tN_225 T.1 nC) (sS_225 W nC) rfl).1,
    (row rfl (tN_226 T.1 nC) (sS_226 W nC) rfl).1, (eL 235 (by decide)).2.2, (eL 230 (by decide)).2.2, (eL 233 (by decide)).2.2, (row rfl (tN_235 T.1 nL) (sS_235 W nL) rfl).1, (row rfl (tN_230 T.1 nL) (sS_230 W nL) rfl).1, (row rfl (tN_233 T.1 nL) (sS_233 W nL) rfl).1,
    (eL 232 (by decide)).1, (eL 231 (by decide)).1, (eL 236 (by decide)).1, (eL 237 (by decide)).1, (eL 238 (by decide)).1, (eL 234 (by decide)).2.1, (row rfl nD (sS_243 W n) rfl).2.2]
  exact ⟨⟨t1, t2, t3⟩, ⟨c1, c2, c3, c4, c5, c6⟩, c7, ⟨s1, s2, ⟨hd, s3, s4, s5⟩, s6, s7, s8, s9, s10⟩, d1, d2, d3⟩
theorem vUt_k (k : Wk S Z hx (fm_nx M) M N) (hS : ∀ x, fe_mem lGt x = true → ¬ S x) (T : Ty M) (W : Wf M) (n : fm_is M 99 99 m = true) (h : VUt m p M soft num K Q) : VUt m p N soft num K Q := by
  have e := fun (f : Nat) (h : 394 ≤ f ∧ f ≤ 413) => kf (f := f) k (lGt_m h).1 (hS f (lGt_m h).2) (wf_lt W (fm_ist rfl n))
  have row := fun {a lo hi x : Nat} (hlo : Nat.ble 1 lo = true) (g : fm_is M lo hi a = true) (sf : Sf M a x) (hx : fe_mem lGt (1000 + x) = true) => ka k sf (wf_n0 W (fm_ist hlo g)) (hS _ hx) (wf_lt W (fm_ist hlo g))
  unfold VUt VTt VKt VSt tNm at *
  simp (decide := true) only [e, row rfl (tN_396 T.1 n) (sS_396 W n) rfl, row rfl (tN_397 T.1 n) (sS_397 W n) rfl, row rfl (tN_399 T.1 n) (sS_399 W n) rfl, row rfl (tN_400 T.1 n) (sS_400 W n) rfl, row rfl (tN_401 T.1 n) (sS_401 W n) rfl,
    row rfl (tN_402 T.1 n) (sS_402 W n) rfl, row rfl (tN_403 T.1 n) (sS_403 W n) rfl, row rfl (tN_404 T.1 n) (sS_404 W n) rfl, row rfl (tN_405 T.1 n) (sS_405 W n) rfl, row rfl (tN_406 T.1 n) (sS_406 W n) rfl, row rfl (tN_410 T.1 n) (sS_410 W n) rfl, row rfl (tN_412 T.1 n) (sS_412 W n) rfl]
  exact h
theorem relG_k (k : Wk S Z hx (fm_nx Mc) Mc Nc) (hS : ∀ x, fe_mem lG x = true → ¬ S x) (T : Ty Mc) (W : Wf Mc) (k' : Wk S' Z' hx' (fm_nx Mt) Mt Nt) (hS' : ∀ x, fe_mem lGt x = true → ¬ S' x) (T' : Ty Mt) (W' : Wf Mt)
    (h : RelG s m p B Mc Mt) : RelG s m p B Nc Nt := by
  obtain ⟨soft, num, K, Q, n, n', v, v', i⟩ := h
  exact ⟨soft, num, K, Q, kis k W rfl n, kis k' W' rfl n', vUc_k k hS T W n v, vUt_k k' hS' T' W' n' v', i⟩
theorem relD_k {d x dk q rq b r c : Nat} (k : Wk S Z hx (fm_nx Mc) Mc Nc) (hS : ∀ x, fe_mem lD x = true → ¬ S x) (hD : DFr S) (k' : Wk S' Z' hx' (fm_nx Mt) Mt Nt) (hS' : ∀ x, fe_mem lDt x = true → ¬ S' x) (R : RelRam r c Nc Nt)
    (h : RelD d x dk q rq b r c Mc Mt) : RelD d x dk q rq b r c Nc Nt := by
  obtain ⟨R0, C, D, size, tk, gv, ⟨a1, a2, a3, a4⟩, ⟨b1, b2, b3, b4⟩, c1, ⟨e1, e2, e3⟩, ⟨g1, g2, g3⟩, ⟨i1, i2, i3⟩, j1, j2⟩ := h
  have T := R0.1.1
  have W := R0.1.2.1
  have T' := R0.2.1.1
  have W' := R0.2.1.2.1
  obtain ⟨nx, ndk, nq, nrq⟩ := dk_is T C
  have eD := fun (f : Nat) (hf : Nat.ble 4 f = true) (hl : fe_mem lD f = true) => kf (f := f) k hf (hS f hl) (wf_lt W (fm_ist rfl C.1.1))
  have eQ := fun (f : Nat) (hf : Nat.ble 4 f = true) (hl : fe_mem lD f = true) => kf (f := f) k hf (hS f hl) (wf_lt W (fm_ist rfl nq))
  have eK := fun (f : Nat) (hf : Nat.ble 4 f = true) (hl : fe_mem lD f = true) => kf (f := f) k hf (hS f hl) (wf_lt W (fm_ist rfl ndk))
  have eB := fun (f : Nat) (hf : Nat.ble 4 f = true) (hl : fe_mem lDt f = true) => kf (f := f) k' hf (hS' f hl) (wf_lt W' (fm_ist rfl D.1))
  have n69 := tN_69 T.1 ndk
  have r69 := (ka k (sS_69 W ndk) (wf_n0 W (fm_ist rfl n69)) (hS 1069 rfl) (wf_lt W (fm_ist rfl n69))).2.1
  have n334 := tN_334 T'.1 D.1
  have n327 := tN_327 T'.1 D.1
  have r334 := (ka k' (sS_334 W' D.1) (wf_n0 W' (fm_ist rfl n334)) (hS' 1334 rfl) (wf_lt W' (fm_ist rfl n334))).2.1
  have r327 := (ka k' (sS_327 W' D.1) (wf_n0 W' (fm_ist rfl n327)) (hS' 1327 rfl) (wf_lt W' (fm_ist rfl n327))).2.1
  refine ⟨R, dkC_k T W k hD C, dkT_k W' k' ⟨hS' 325 rfl, hS' 326 rfl⟩ D, size, tk, gv, ?_⟩
  unfold DkV RelDk
  rw [(eD 63 rfl rfl).1, (eD 64 rfl rfl).1, (eD 65 rfl rfl).1, (eD 66 rfl rfl).1, (eQ 71 rfl rfl).1, (eQ 72 rfl rfl).1, (eQ 73 rfl rfl).2.1, (eQ 74 rfl rfl).2.1, (eQ 75 rfl rfl).2.1, (eQ 76 rfl rfl).1, (eQ 77 rfl rfl).1, (eK 70 rfl rfl).1, (eK 69 rfl rfl).2.2, r69,
    (eB 329 rfl rfl).1, (eB 328 rfl rfl).1, (eB 333 rfl rfl).1, (eB 332 rfl rfl).1, (eB 330 rfl rfl).1, (eB 331 rfl rfl).1, (eB 334 rfl rfl).2.2, r334, (eB 335 rfl rfl).1, (eB 336 rfl rfl).1, (eB 338 rfl rfl).1, (eB 327 rfl rfl).2.2, r327]
  exact ⟨⟨a1, a2, a3, a4⟩, ⟨b1, b2, b3, b4⟩, c1, ⟨e1, e2, e3⟩, ⟨g1, g2, g3⟩, ⟨i1, i2, i3⟩, j1, j2⟩
end Fg
