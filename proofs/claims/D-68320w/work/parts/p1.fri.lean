/-! what others write leaves a relation as it is: tools; integers -/
set_option maxRecDepth 100000
/-- of the things in O, the places of L are not written -/
def Qf (S Z O : Nat → Prop) (L : List Nat) : Prop := ∀ s a, fe_mem L s = true → O a → S s → ¬ Z a
/-- what is of one processor and hangs on O is in O -/
def Oc (O : Nat → Prop) (M : FM) : Prop := ∀ f a i, 3 ≤ f → O a → Pv M (M.2.2 f a i) = true → O (M.2.2 f a i)
def pvr (lo hi : Nat) : Bool := (nrg lo hi).all pvt
section Kf
variable {S Z O : Nat → Prop} {hx f a s i lo hi : Nat} {L : List Nat} {M N : FM}
theorem kfO (k : Wk S Z hx (fm_nx M) M N) (q : Qf S Z O L) (W : Wf M) (ho : O a) (h : M.2.2 0 a 0 ≠ 0) (hf : Nat.ble 4 f = true) (hl : fe_mem L f = true) :
    N.1 f a = M.1 f a ∧ N.2.1 f a = M.2.1 f a ∧ N.2.2 f a = M.2.2 f a := by
  have h4 := Nat.le_of_ble_eq_true hf
  refine k.2.2.2 f a (wf_lt W h) (by omega) (fun z => ?_)
  unfold lcn at z
  rw [if_neg (by omega)] at z
  exact q f a hl ho z
theorem kaO (k : Wk S Z hx (fm_nx M) M N) (q : Qf S Z O L) (W : Wf M) (ho : O a) (h : M.2.2 0 a 0 ≠ 0) (sf : Sf M a s) (hl : fe_mem L (1000 + s) = true) :
    N.1 3 a = M.1 3 a ∧ N.2.1 3 a = M.2.1 3 a ∧ N.2.2 3 a = M.2.2 3 a := by
  refine k.2.2.2 3 a (wf_lt W h) (by omega) (fun z => ?_)
  unfold lcn at z
  rw [if_pos rfl] at z
  rcases sf with y | y
  · exact absurd y (wf_n0 W h)
  · rw [y.2] at z
    exact q _ a hl ho z
theorem pv_r (g : fm_is M lo hi a = true) (hp : pvr lo hi = true) : Pv M a = true := by
  have k := fm_isd g
  unfold Pv pvb
  rw [List.all_eq_true.mp hp _ (nrg_m k.1 k.2)]
  rfl
theorem pv_a (W : Wf M) (g : fm_is M lo hi a = true) (h1 : Nat.ble 901 lo = true) (h2 : Nat.ble hi 904 = true) (sf : Sf M a s) (hs : fe_mem pv_S s = true) : Pv M a = true := by
  have k := fm_isd g
  have h1 := Nat.le_of_ble_eq_true h1
  have h2 := Nat.le_of_ble_eq_true h2
  rcases sf with y | y
  · exact absurd y (wf_n0 W (by omega))
  · unfold Pv pvb
    rw [Nat.ble_eq.mpr (show 901 ≤ M.2.2 0 a 0 by omega), Nat.ble_eq.mpr (show M.2.2 0 a 0 ≤ 904 by omega), y.2, hs]
    cases pvt (M.2.2 0 a 0) <;> rfl
theorem oc_f (c : Oc O M) (ho : O a) (g : fm_is M lo hi (M.2.2 f a i) = true) (hf : Nat.ble 3 f = true) (hp : pvr lo hi = true) : O (M.2.2 f a i) :=
  c f a i (Nat.le_of_ble_eq_true hf) ho (pv_r g hp)
theorem oc_a (c : Oc O M) (W : Wf M) (ho : O a) (g : fm_is M lo hi (M.2.2 f a 0) = true) (sf : Sf M (M.2.2 f a 0) s) (hf : Nat.ble 3 f = true) (h1 : Nat.ble 901 lo = true) (h2 : Nat.ble hi 904 = true) (hs : fe_mem pv_S s = true) : O (M.2.2 f a 0) :=
  c f a 0 (Nat.le_of_ble_eq_true hf) ho (pv_a W g h1 h2 sf hs)
theorem kisW (k : Wk S Z hx (fm_nx M) M N) (W : Wf M) (g : fm_is M lo hi a = true) (hlo : Nat.ble 1 lo = true) : fm_is N lo hi a = true := kis k W hlo g
theorem ktt (k : Wk S Z hx (fm_nx M) M N) (W : Wf M) (h : M.2.2 0 a 0 ≠ 0) : N.2.2 0 a 0 = M.2.2 0 a 0 ∧ N.2.2 1 a 0 = M.2.2 1 a 0 := by
  have := kt k (wf_lt W h)
  exact ⟨congrFun this.1 0, congrFun this.2 0⟩
theorem oc_T : Oc (fun _ => True) M := fun _ _ _ _ _ _ => trivial
theorem oc_o {ow : Nat → Nat} {g : Nat} (O : Own ow M) : Oc (fun a => ow a = g + 1) M := fun f a i hf ha hp => by
  rcases O.2.2.1 f a i hf (by omega) with z | z
  · exact absurd z ((O.1 _).mp hp)
  · omega
theorem qf_T (h : ∀ s, fe_mem L s = true → ¬ S s) : Qf S Z (fun _ => True) L := fun s _ h1 _ h2 => absurd h2 (h s h1)
theorem qf_o {ow : Nat → Nat} {g h : Nat} (hg : g ≠ h) : ∀ a, a < N.2.2 2 0 0 → ow a = g + 1 → ¬ Zo ow (N.2.2 2 0 0) h a := fun a ha e z => by
  rcases z with z | z | z <;> omega
end Kf
section Fi
variable {S Z O S' Z' O' : Nat → Prop} {hx hx' a c i j dc : Nat} {w : Int32} {o : Option Wt} {M N Mc Nc Mt Nt : FM} {q : Wt}
theorem dec_k (hI : ∀ f j, 149 ≤ f → f ≤ 160 → N.1 f i j = M.1 f i j) (hL : ∀ f j, 149 ≤ f → f ≤ 160 → N.2.1 f i j = M.2.1 f i j) (hR : ∀ f j, 149 ≤ f → f ≤ 160 → N.2.2 f i j = M.2.2 f i j) (hc : ∀ f j, 161 ≤ f → f ≤ 170 → N.2.2 f c j = M.2.2 f c j) (D : Dec c i w M) : Dec c i w N := by
  unfold Dec DA dAcc dFor dCmp dJmp act at *
  simp only [hI 150 0 (by decide) (by decide), hI 151 0 (by decide) (by decide), hI 152 0 (by decide) (by decide), hI 153 0 (by decide) (by decide), hI 156 0 (by decide) (by decide), hI 157 0 (by decide) (by decide), hI 158 0 (by decide) (by decide), hI 159 0 (by decide) (by decide), hI 160 0 (by decide) (by decide), hL 154 0 (by decide) (by decide), hR 149 0 (by decide) (by decide), hR 155 0 (by decide) (by decide), hc 161 0 (by decide) (by decide), hc 162 0 (by decide) (by decide), hc 163 0 (by decide) (by decide), hc 164 0 (by decide) (by decide), hc 165 0 (by decide) (by decide), hc 166 0 (by decide) (by decide), hc 167 0 (by decide) (by decide), hc 168 0 (by decide) (by decide), hc 169 0 (by decide) (by decide), hc 170 0 (by decide) (by decide)]
  exact D
/-- the component's integers: places -/
def lI : List Nat := [149, 150, 151, 152, 153, 154, 155, 156, 157, 158, 159, 160, 161, 162, 163, 164, 165, 166, 167, 168, 169, 170, 171, 172, 173, 174, 175, 176, 177, 178, 179, 1173, 1175, 1178]
def lIt : List Nat := [346, 347, 353, 354, 355, 1346, 1355]
theorem lI_m {f : Nat} (h1 : 149 ≤ f) (h2 : f ≤ 179) : Nat.ble 4 f = true ∧ fe_mem lI f = true := by
  refine ⟨Nat.ble_eq.mpr (by omega), fe_mem_of ?_⟩
  unfold lI
  simp only [List.mem_cons]
  omega
theorem coI_k (k : Wk S Z hx (fm_nx M) M N) (q : Qf S Z O lI) (sh : ¬ S 10 ∧ ¬ S 147 ∧ ¬ S 148) (oc : Oc O M) (oa : O a) (T : Ty M) (W : Wf M) (h : CoI a M) : CoI a N := by
  obtain ⟨n, K, DT, OD⟩ := h
  have ta := fm_ist rfl n
  have fA := fun (f : Nat) (h1 : 149 ≤ f) (h2 : f ≤ 179) => kfO k q W oa ta (lI_m h1 h2).1 (lI_m h1 h2).2
  have n172 := tN_172 T.1 n
  have o172 := oc_f (i := 0) oc oa n172 rfl rfl
  have fD := fun (f : Nat) (h1 : 149 ≤ f) (h2 : f ≤ 179) => kfO k q W o172 (fm_ist rfl n172) (lI_m h1 h2).1 (lI_m h1 h2).2
  have n173 := tN_173 T.1 n
  have o173 := oc_f (i := 0) oc oa n173 rfl rfl
  have e3 := (kaO k q W o173 (fm_ist rfl n173) (sS_173 W n) rfl).2.2
  have e172 : N.2.2 172 a 0 = M.2.2 172 a 0 := congrFun (fA 172 (by decide) (by decide)).2.2 0
  have e173 : N.2.2 173 a 0 = M.2.2 173 a 0 := congrFun (fA 173 (by decide) (by decide)).2.2 0
  refine ⟨kis k W rfl n, ?_, ?_, fun z h1 h2 => (congrFun (kf k (f := 10) rfl sh.1 (by have := W.2.2.2; omega)).1 0).trans (OD z h1 h2)⟩
  · unfold KpI
    rw [e173, e172, e3]
    refine ⟨fun p hp => ?_, K.2⟩
    rcases K.1 p hp with h | ⟨h, D⟩
    · exact Or.inl h
    · right
      have oj := oc_f oc o173 h rfl rfl
      have fJ := fun (f : Nat) (h1 : 149 ≤ f) (h2 : f ≤ 179) => kfO k q W oj (fm_ist rfl h) (lI_m h1 h2).1 (lI_m h1 h2).2
      refine ⟨kis k W rfl h, ?_⟩
      rw [(fJ 150 (by decide) (by decide)).1]
      exact dec_k (fun f j h1 h2 => congrFun (fJ f h1 (by omega)).1 j) (fun f j h1 h2 => congrFun (fJ f h1 (by omega)).2.1 j) (fun f j h1 h2 => congrFun (fJ f h1 (by omega)).2.2 j) (fun f j h1 h2 => congrFun (fD f (by omega) (by omega)).2.2 j) D
  · rw [e172]
    refine decT_tr (fun b hb => ?_) (fun f h1 h2 => congrFun (fD f (by omega) (by omega)).2.2 0) DT
    have hb0 : M.2.2 0 b 0 ≠ 0 := by omega
    have hlt := wf_lt W hb0
    exact ⟨congrFun (kf k (f := 147) rfl sh.2.1 hlt).1 0, congrFun (kf k (f := 148) rfl sh.2.2 hlt).1 0, (ktt k W hb0).1⟩
/-- the registers and the counter -/
theorem regI_k (k : Wk S Z hx (fm_nx M) M N) (q : Qf S Z O lI) (oc : Oc O M) (oa : O a) (T : Ty M) (W : Wf M) (n : fm_is M 63 63 a = true) :
    N.2.2 171 a 0 = M.2.2 171 a 0 ∧ rgI a N = rgI a M ∧ N.2.1 3 (rgI a M) = M.2.1 3 (rgI a M) ∧ N.2.1 179 (M.2.2 171 a 0) 0 = M.2.1 179 (M.2.2 171 a 0) 0 := by
  have n171 := tN_171 T.1 n
  have o171 := oc_f (i := 0) oc oa n171 rfl rfl
  have e171 : N.2.2 171 a 0 = M.2.2 171 a 0 := congrFun (kfO k q W oa (fm_ist rfl n) (f := 171) rfl rfl).2.2 0
  have e178 := congrFun (kfO k q W o171 (fm_ist rfl n171) (f := 178) rfl rfl).2.2 0
  have n178 := tN_178 T.1 n171
  have o178 := oc_a oc W o171 n178 (sS_178 W n171) rfl rfl rfl rfl
  refine ⟨e171, by unfold rgI; rw [e171, e178], (kaO k q W o178 (fm_ist rfl n178) (sS_178 W n171) rfl).2.1, congrFun (kfO k q W o171 (fm_ist rfl n171) (f := 179) rfl rfl).2.1 0⟩
theorem relI_k (k : Wk S Z hx (fm_nx Mc) Mc Nc) (q : Qf S Z O lI) (sh : ¬ S 10 ∧ ¬ S 147 ∧ ¬ S 148) (oc : Oc O Mc) (oa : O a) (T : Ty Mc) (W : Wf Mc)
    (k' : Wk S' Z' hx' (fm_nx Mt) Mt Nt) (q' : Qf S' Z' O' lIt) (oc' : Oc O' Mt) (oa' : O' c) (T' : Ty Mt) (W' : Wf Mt) (h : RelI a c Mc Mt o) : RelI a c Nc Nt o := by
  obtain ⟨C, n', R, P, h0, h1⟩ := h
  have n := C.1
  obtain ⟨g1, g2, g3, g4⟩ := regI_k k q oc oa T W n
  have ta := fm_ist rfl n
  have fA := fun (f : Nat) (h1 : 149 ≤ f) (h2 : f ≤ 179) => kfO k q W oa ta (lI_m h1 h2).1 (lI_m h1 h2).2
  have tc := fm_ist rfl n'
  have n346 := tN_346 T'.1 n'
  have o346 := oc_a oc' W' oa' n346 (sS_346 W' n') rfl rfl rfl rfl
  have e346 := congrFun (kfO k' q' W' oa' tc (f := 346) rfl rfl).2.2 0
  have e347 := congrFun (kfO k' q' W' oa' tc (f := 347) rfl rfl).2.1 0
  have e353 := congrFun (kfO k' q' W' oa' tc (f := 353) rfl rfl).1 0
  have e354 := congrFun (kfO k' q' W' oa' tc (f := 354) rfl rfl).1 0
  have e355 := congrFun (kfO k' q' W' oa' tc (f := 355) rfl rfl).2.2 0
  have r346 := (kaO k' q' W' o346 (fm_ist rfl n346) (sS_346 W' n') rfl).2.1
  have e174 : Nc.2.2 174 a 0 = Mc.2.2 174 a 0 := congrFun (fA 174 (by decide) (by decide)).2.2 0
  refine ⟨coI_k k q sh oc oa T W C, kis k' W' rfl n', ?_, ?_, ?_, ?_⟩
  · rw [g2, e346, g3, r346]
    exact R
  · rw [g1, g4, e347]
    exact P
  · rw [e174, e353]
    exact h0
  · intro z hz
    obtain ⟨w1, w2, w3, w4, w5, w6⟩ := h1 z hz
    have oj := oc_f (i := 0) oc oa w1 rfl rfl
    have fJ := fun (f : Nat) (h1 : 149 ≤ f) (h2 : f ≤ 179) => kfO k q W oj (fm_ist rfl w1) (lI_m h1 h2).1 (lI_m h1 h2).2
    have n175 := tN_175 T.1 n
    have o175 := oc_a oc W oa n175 (sS_175 W n) rfl rfl rfl rfl
    have r175 := (kaO k q W o175 (fm_ist rfl n175) (sS_175 W n) rfl).2.1
    have e175 : Nc.2.2 175 a 0 = Mc.2.2 175 a 0 := congrFun (fA 175 (by decide) (by decide)).2.2 0
    have e176 : Nc.1 176 a 0 = Mc.1 176 a 0 := congrFun (fA 176 (by decide) (by decide)).1 0
    have n355 := tN_355 T'.1 n'
    have o355 := oc_a oc' W' oa' n355 (sS_355 W' n') rfl rfl rfl rfl
    have r355 := (kaO k' q' W' o355 (fm_ist rfl n355) (sS_355 W' n') rfl).2.1
    have n149 : Mc.2.2 0 (Mc.2.2 149 (Mc.2.2 174 a 0) 0) 0 ≠ 0 := by
      rcases w2.1 with z | z <;> rw [z.1] <;> decide
    unfold WyI
    rw [e174, e353, e354, e176, e175, r175, e355, r355]
    refine ⟨kis k W rfl w1, ?_, w3, w4, w5, w6⟩
    unfold Uk at w2 ⊢
    rw [(fJ 149 (by decide) (by decide)).2.2, (ktt k W n149).1]
    rw [(fJ 159 (by decide) (by decide)).1, (fJ 160 (by decide) (by decide)).1, (fJ 158 (by decide) (by decide)).1, (fJ 151 (by decide) (by decide)).1]
    exact w2
end Fi
