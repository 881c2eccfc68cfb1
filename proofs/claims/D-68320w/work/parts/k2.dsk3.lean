/-! disks: the twin gathers -/
set_option maxRecDepth 100000
def PBk (b : Nat) (M : FM) (f x : Nat) : Prop := (x = b ∧ 339 ≤ f ∧ f ≤ 344) ∨ (f = 3 ∧ (x = M.2.2 340 b 0 ∨ x = M.2.2 341 b 0 ∨ x = M.2.2 342 b 0))
def Gt (b : Nat) (M : FM) (pre : List Blk) : Prop := M.1 339 b 0 = nI pre.length ∧ ∀ j, j < pre.length → M.2.1 3 (M.2.2 340 b 0) j = (pre.getD j (0, 0, false)).1 ∧ M.2.1 3 (M.2.2 341 b 0) j = (pre.getD j (0, 0, false)).2.1 ∧ M.1 3 (M.2.2 342 b 0) j = bz ((pre.getD j (0, 0, false)).2.2 = true)
theorem getD_l {l : List Blk} {x d : Blk} {j : Nat} (h : j < l.length) : (l ++ [x]).getD j d = l.getD j d := by
  rw [List.getD_eq_getElem?_getD, List.getD_eq_getElem?_getD, List.getElem?_append_left h]
theorem getD_r {l : List Blk} {x d : Blk} : (l ++ [x]).getD l.length d = x := by
  rw [List.getD_eq_getElem?_getD, List.getElem?_append_right (Nat.le_refl _), Nat.sub_self]
  rfl
theorem lstB_d {l : List Blk} (h : 0 < l.length) (d : Blk) : lstB l = l.getD (l.length - 1) d := by
  unfold lstB
  rw [List.getLast?_eq_getElem?, List.getD_eq_getElem?_getD, List.getElem?_eq_getElem (by omega)]
  rfl
theorem bz_b (p : Bool) : (bz (p = true) = 0) ↔ p = false := by
  rw [bz_0]
  cases p with
  | true => exact ⟨fun h => absurd rfl h, fun h => by cases h⟩
  | false => exact ⟨fun _ => rfl, fun _ h => by cases h⟩
theorem bz_a1 (P : Prop) : bz P &&& 1 = bz P := by
  unfold bz
  by_cases h : P
  · rw [fi_pos h]; rfl
  · rw [fi_neg h]; rfl
section Gt
variable {b c : Nat} {M : FM} {size : Nat} {bl : Int64}
/-- the twin's device, for gathering -/
def WbV (b c : Nat) (M : FM) (size : Nat) (bl : Int64) : Prop := fm_is M 93 93 b = true ∧ M.2.2 326 b 0 = c ∧ fm_is M 98 98 c = true ∧ M.1 330 b 0 = nI size ∧ M.2.1 3 (M.2.2 334 b 0) 0 = bl ∧ (0 < size ∧ size ≤ 16)
theorem pbk_h0 (T : Ty M) (n : fm_is M 93 93 b = true) : ∀ f x, PBk b M f x → M.2.2 0 x 0 ≠ 0 := fun f x h => by
  rcases h with ⟨h, _⟩ | ⟨_, h | h | h⟩
  · rw [h]; exact fm_ist rfl n
  · rw [h]; exact fm_ist rfl (tN_340 T.1 n)
  · rw [h]; exact fm_ist rfl (tN_341 T.1 n)
  · rw [h]; exact fm_ist rfl (tN_342 T.1 n)
theorem pbk_tmb {N : FM} (h : Frm (PBk b M) M N) (T : Ty M) (W : Wf M) (n : fm_is M 93 93 b = true) (nc : fm_is M 98 98 c = true) (i : Nat) : tmb N c i = tmb M c i := by
  unfold tmb
  rw [h.1]
  have n8 := tN_388 T.1 nc
  rw [(h.2 3 _ _ (fun q => ?_)).2]
  rcases q with q | ⟨_, q | q | q⟩
  · omega
  · exact sf_ne W (sS_388 W nc) (sS_340 W n) (lo := 902) rfl n8 (by decide) q
  · exact sf_ne W (sS_388 W nc) (sS_341 W n) (lo := 902) rfl n8 (by decide) q
  · exact sf_ne W (sS_388 W nc) (sS_342 W n) (lo := 902) rfl n8 (by decide) q
theorem pbk_V {N : FM} (h : Frm (PBk b M) M N) (T : Ty M) (W : Wf M) (V : WbV b c M size bl) : WbV b c N size bl := by
  obtain ⟨n, hc, nc, h3, h4, h5⟩ := V
  have n4 := tN_334 T.1 n
  refine ⟨frm_is h n, by rw [h.1]; exact hc, frm_is h nc, ?_, ?_, h5⟩
  · rw [(h.2 330 b 0 (fun q => by rcases q with q | q <;> omega)).1]
    exact h3
  · rw [h.1, (h.2 3 _ _ (fun q => ?_)).2]
    · exact h4
    · rcases q with q | ⟨_, q | q | q⟩
      · omega
      · exact sf_ne W (sS_334 W n) (sS_340 W n) (lo := 902) rfl n4 (by decide) q
      · exact sf_ne W (sS_334 W n) (sS_341 W n) (lo := 902) rfl n4 (by decide) q
      · exact sf_ne W (sS_334 W n) (sS_342 W n) (lo := 902) rfl n4 (by decide) q
/-- a step of gathering -/
theorem gT_step {M' : FM} {pre : List Blk} {k : Nat} (W : Wf M) (Tm : Ty M) (V : WbV b c M size bl) (h : Frm (PBk b M) M M') (T' : Ty M') (g : Gt b M' pre) (hp : pre.length < size) (hk : k < 65536) :
    HX95_gather_9 b (nI k) (Int32.ofInt 1) M' ∧ ∃ M4, Frm (PBk b M) M M4 ∧ Ty M4 ∧
      GX95_gather_9 b (nI k) (Int32.ofInt 1) M' = fi (k < size ∧ inR (gB bl k) 16) (fi (gOk (nuT b M) bl k (lstB pre).2.2)
        (.inl (b, nI (ul (nuT b M (gB bl k + Int64.ofInt 14) 2)), bz (ib (gMk (nuT b M) bl k) 0 = true), fm_sI M4 339 b 0 (nI (pre.length + 1)))) (.inr (Int32.ofInt 0, M4))) (.inr (Int32.ofInt 0, M')) ∧
      (k < size ∧ inR (gB bl k) 16 → Ty (fm_sI M4 339 b 0 (nI (pre.length + 1))) ∧ Gt b (fm_sI M4 339 b 0 (nI (pre.length + 1))) (pre ++ [gBk (nuT b M) bl k])) := by
  have V' := pbk_V h Tm W V
  have n := V.1
  have nc := V.2.2.1
  obtain ⟨n', hc, nc', h330, hbl, hs⟩ := V'
  obtain ⟨g1, g2⟩ := g
  have e340 : M'.2.2 340 b 0 = M.2.2 340 b 0 := by rw [h.1]
  have e341 : M'.2.2 341 b 0 = M.2.2 341 b 0 := by rw [h.1]
  have e342 : M'.2.2 342 b 0 = M.2.2 342 b 0 := by rw [h.1]
  have l340 := tL_340 Tm.1 n
  have l341 := tL_341 Tm.1 n
  have l342 := tL_342 Tm.1 n
  have ne01 := sf_ne W (sS_340 W n) (sS_341 W n) (lo := 902) rfl (tN_340 Tm.1 n) (by decide)
  have nz1 : ¬ (Int32.ofInt 1 : Int32) = 0 := by decide
  have ec : (nI pre.length).toNatClampNeg = pre.length := o_cl (by omega)
  have eB : M'.2.1 3 (M'.2.2 334 b 0) (Int32.ofInt 0).toNatClampNeg + Int64.ofInt 16 * (nI k).toInt64 = gB bl k := by
    rw [show (Int32.ofInt 0).toNatClampNeg = 0 from rfl, hbl]
    rfl
  have c1 : (M'.1 330 b 0 ≤ nI k) ↔ ¬ k < size := by
    rw [h330, i_le (by rw [ui_nI]; omega) (by rw [ui_nI]; omega), ui_nI, ui_nI]
    omega
  have c2 : ¬ M'.1 339 b 0 = M'.1 330 b 0 := fun q => by
    rw [g1, h330] at q
    have := nI_j (by omega) (by omega) q
    omega
  have th := X95_isThere (M := M') (a := gB bl k) (b := Int64.ofInt 16) (by decide)
  have c3 : (Int64.ofInt 16 = 0 ∨ inR (gB bl k) (ul (Int64.ofInt 16))) ↔ inR (gB bl k) 16 := ⟨fun q => q.elim (fun q => absurd q (by decide)) id, Or.inr⟩
  rw [propext c3] at th
  by_cases hkin : k < size ∧ inR (gB bl k) 16
  · obtain ⟨hk1, hin⟩ := hkin
    have rr : ∀ o s : Nat, o + s ≤ 16 → inR (gB bl k + lN o) s := fun o s q => by
      unfold inR at *
      rw [ul_add, l_big (by omega)]
      omega
    have r0 : inR (gB bl k) 8 := by unfold inR at *; omega
    have nu := fun (N : FM) (hN : Frm (PBk b M) M N) (TN : Ty N) (a : Int64) (s : Nat) (ha : inR a s) (h8 : s ≤ 8) => by
      have q := nuT_e (s := s) (a := a) TN (frm_is hN n) (frm_is hN nc) (by rw [hN.1]; exact V.2.1) ha h8
      rw [nuT_s Tm n nc V.2.1 TN (frm_is hN n) (frm_is hN nc) (by rw [hN.1]; exact V.2.1) (fun i => pbk_tmb hN Tm W n nc i) ha h8] at q
      exact q
    obtain ⟨a1, a2⟩ := nu M' h T' _ 2 (rr 12 2 (by decide)) (by decide)
    obtain ⟨a3, a4⟩ := nu M' h T' _ 8 r0 (by decide)
    rw [show nI 2 = Int32.ofInt 2 from rfl, show lN 12 = Int64.ofInt 12 from rfl] at a1 a2
    rw [show nI 8 = Int32.ofInt 8 from rfl] at a3 a4
    obtain ⟨M15, hM15⟩ : ∃ X, X = fm_sL M' 3 (M.2.2 340 b 0) pre.length (nuT b M (gB bl k) 8) := ⟨_, rfl⟩
    have f15 : Frm (PBk b M) M M15 := by rw [hM15]; exact frm_L h (Or.inr ⟨rfl, Or.inl rfl⟩)
    have t15 : Ty M15 := by rw [hM15]; exact ⟨T'.1, T'.2⟩
    have s15 : ∀ j, M15.2.1 3 (M.2.2 340 b 0) j = if j = pre.length then nuT b M (gB bl k) 8 else M'.2.1 3 (M.2.2 340 b 0) j := fun j => by
      rw [hM15, rL]
      by_cases q : j = pre.length
      · rw [if_pos ⟨rfl, rfl, q⟩, if_pos q]
      · rw [if_neg (fun z => q z.2.2), if_neg q]
    have s15' : ∀ j, M15.2.1 3 (M.2.2 341 b 0) j = M'.2.1 3 (M.2.2 341 b 0) j := fun j => by rw [hM15]; exact oL (fun q => ne01 q.2.1.symm)
    have i15 : M15.1 = M'.1 := by rw [hM15]; rfl
    have in15 : fm_in M' (M.2.2 340 b 0) (nI pre.length) = true := in_nI (N := 16) (by rw [h.1]; exact l340) (by omega) (by decide)
    obtain ⟨a5, a6⟩ := nu M15 f15 t15 _ 4 (rr 8 4 (by decide)) (by decide)
    rw [show nI 4 = Int32.ofInt 4 from rfl, show lN 8 = Int64.ofInt 8 from rfl] at a5 a6
    have e15 : M15.1 339 b 0 = nI pre.length := by rw [i15]; exact g1
    have e15' : M15.2.2 341 b 0 = M.2.2 341 b 0 := by rw [f15.1]
    obtain ⟨M19, hM19⟩ : ∃ X, X = fm_sL M15 3 (M.2.2 341 b 0) pre.length (nuT b M (gB bl k + Int64.ofInt 8) 4) := ⟨_, rfl⟩
    have f19 : Frm (PBk b M) M M19 := by rw [hM19]; exact frm_L f15 (Or.inr ⟨rfl, Or.inr (Or.inl rfl)⟩)
    have t19 : Ty M19 := by rw [hM19]; exact ⟨t15.1, t15.2⟩
    have s19 : ∀ j, M19.2.1 3 (M.2.2 341 b 0) j = if j = pre.length then nuT b M (gB bl k + Int64.ofInt 8) 4 else M'.2.1 3 (M.2.2 341 b 0) j := fun j => by
      rw [hM19, rL]
      by_cases q : j = pre.length
      · rw [if_pos ⟨rfl, rfl, q⟩, if_pos q]
      · rw [if_neg (fun z => q z.2.2), if_neg q, s15']
    have s19' : ∀ j, M19.2.1 3 (M.2.2 340 b 0) j = if j = pre.length then nuT b M (gB bl k) 8 else M'.2.1 3 (M.2.2 340 b 0) j := fun j => by rw [hM19]; exact (oL (fun q => ne01 q.2.1)).trans (s15 j)
    have i19 : M19.1 = M'.1 := by rw [hM19]; exact i15
    have in19 : fm_in M15 (M.2.2 341 b 0) (nI pre.length) = true := in_nI (N := 16) (by rw [f15.1]; exact l341) (by omega) (by decide)
    have e19 : M19.1 339 b 0 = nI pre.length := by rw [i19]; exact g1
    have e19' : M19.2.2 342 b 0 = M.2.2 342 b 0 := by rw [f19.1]
    -- what stands behind a mark of one bit
    have core : HX95_gather_131 b (gB bl k) (gMk (nuT b M) bl k) (M.2.2 342 b 0) (nI pre.length) (bz (ib (gMk (nuT b M) bl k) 1 = true)) M19 ∧ ∃ M4, Frm (PBk b M) M M4 ∧ Ty M4 ∧
        GX95_gather_131 b (gB bl k) (gMk (nuT b M) bl k) (M.2.2 342 b 0) (nI pre.length) (bz (ib (gMk (nuT b M) bl k) 1 = true)) M19 = fi (gOk (nuT b M) bl k (lstB pre).2.2)
          (.inl (b, nI (ul (nuT b M (gB bl k + Int64.ofInt 14) 2)), bz (ib (gMk (nuT b M) bl k) 0 = true), fm_sI M4 339 b 0 (nI (pre.length + 1)))) (.inr (Int32.ofInt 0, M4)) ∧
        (Ty (fm_sI M4 339 b 0 (nI (pre.length + 1))) ∧ Gt b (fm_sI M4 339 b 0 (nI (pre.length + 1))) (pre ++ [gBk (nuT b M) bl k])) := by
      generalize hmm : gMk (nuT b M) bl k = mk at *
      unfold HX95_gather_131 GX95_gather_131 GX95_gather_169 HX95_gather_169
      dsimp only
      rw [bz_a1, ec]
      have f4 : Frm (PBk b M) M (fm_sI M19 3 (M.2.2 342 b 0) pre.length (bz (ib mk 1 = true))) := frm_I f19 (Or.inr ⟨rfl, Or.inr (Or.inr rfl)⟩)
      have t4 : Ty (fm_sI M19 3 (M.2.2 342 b 0) pre.length (bz (ib mk 1 = true))) := ⟨t19.1, by
        have q := tyb_s4 (a := M.2.2 342 b 0) (i := pre.length) (v := bz (ib mk 1 = true)) t19.2
        rw [bz_a1] at q
        exact q⟩
      have s4 : ∀ j, (fm_sI M19 3 (M.2.2 342 b 0) pre.length (bz (ib mk 1 = true))).1 3 (M.2.2 342 b 0) j = if j = pre.length then bz (ib mk 1 = true) else M'.1 3 (M.2.2 342 b 0) j := fun j => by
        rw [rI, i19]
        by_cases q : j = pre.length
        · rw [if_pos ⟨rfl, rfl, q⟩, if_pos q]
        · rw [if_neg (fun z => q z.2.2), if_neg q]
      have l4 : (fm_sI M19 3 (M.2.2 342 b 0) pre.length (bz (ib mk 1 = true))).2.1 = M19.2.1 := rfl
      have k4 : (fm_sI M19 3 (M.2.2 342 b 0) pre.length (bz (ib mk 1 = true))).1 339 b 0 = nI pre.length := (oI (fun q => absurd q.1 (by decide))).trans e19
      have in4 : fm_in M19 (M.2.2 342 b 0) (nI pre.length) = true := in_nI (N := 16) (by rw [f19.1]; exact l342) (by omega) (by decide)
      generalize fm_sI M19 3 (M.2.2 342 b 0) pre.length (bz (ib mk 1 = true)) = M4 at *
      have e4' : M4.2.2 342 b 0 = M.2.2 342 b 0 := by rw [f4.1]
      have e40 : M4.2.2 340 b 0 = M.2.2 340 b 0 := by rw [f4.1]
      have e41 : M4.2.2 341 b 0 = M.2.2 341 b 0 := by rw [f4.1]
      have v0 : M4.2.1 3 (M.2.2 340 b 0) pre.length = nuT b M (gB bl k) 8 := by rw [l4, s19', if_pos rfl]
      have v1 : M4.2.1 3 (M.2.2 341 b 0) pre.length = nuT b M (gB bl k + Int64.ofInt 8) 4 := by rw [l4, s19, if_pos rfl]
      have ini : ∀ A N, M4.2.2 1 A 0 = N → N = 16 → fm_in M4 A (nI pre.length) = true := fun A N q1 q2 => in_nI q1 (by omega) (by omega)
      have in40 : fm_in M4 (M.2.2 340 b 0) (nI pre.length) = true := ini _ _ (by rw [f4.1]; exact l340) rfl
      have in41 : fm_in M4 (M.2.2 341 b 0) (nI pre.length) = true := ini _ _ (by rw [f4.1]; exact l341) rfl
      have in42 : fm_in M4 (M.2.2 342 b 0) (nI pre.length) = true := ini _ _ (by rw [f4.1]; exact l342) rfl
      obtain ⟨a7, a8⟩ := nu M4 f4 t4 _ 2 (rr 14 2 (by decide)) (by decide)
      rw [show nI 2 = Int32.ofInt 2 from rfl, show lN 14 = Int64.ofInt 14 from rfl] at a7 a8
      have lt4 : ul (nuT b M (gB bl k + Int64.ofInt 8) 4) < 2 ^ 32 := by
        obtain ⟨_, v, w2, w3⟩ := X95_number (s := 4) Tm n nc V.2.1 (rr 8 4 (by decide)) (by decide)
        unfold nuT
        rw [show Int64.ofInt 8 = lN 8 from rfl, w2]
        refine Nat.lt_pow_two_of_testBit _ (fun i hi => ?_)
        have := w3 i
        rw [decide_eq_false (by omega), Bool.false_and] at this
        exact this
      have p32 : (2 : Nat) ^ 32 = 4294967296 := by decide
      have th4 := X95_isThere (M := M4) (a := nuT b M (gB bl k) 8) (b := nuT b M (gB bl k + Int64.ofInt 8) 4) (by omega)
      have e14 : (nuT b M (gB bl k + Int64.ofInt 14) 2).toInt32 = nI (ul (nuT b M (gB bl k + Int64.ofInt 14) 2)) := by
        have q := o_32 (n := ul (nuT b M (gB bl k + Int64.ofInt 14) 2)) ?_
        · rw [lN_ul] at q
          exact q
        · obtain ⟨_, v, w2, w3⟩ := X95_number (s := 2) Tm n nc V.2.1 (rr 14 2 (by decide)) (by decide)
          have : ul (nuT b M (gB bl k + Int64.ofInt 14) 2) < 2 ^ 16 := by
            unfold nuT
            rw [show Int64.ofInt 14 = lN 14 from rfl, w2]
            refine Nat.lt_pow_two_of_testBit _ (fun i hi => ?_)
            have := w3 i
            rw [decide_eq_false (by omega), Bool.false_and] at this
            exact this
          omega
      have h222 : ∀ s0, HX95_gather_222 b (gB bl k) s0 M4 ∧ GX95_gather_222 b (gB bl k) s0 M4 = .inl (b, nI (ul (nuT b M (gB bl k + Int64.ofInt 14) 2)), s0, fm_sI M4 339 b 0 (nI (pre.length + 1))) := fun s0 => by
        unfold HX95_gather_222 GX95_gather_222
        rw [a8]
        dsimp only
        rw [k4, up_1 (by omega), e14]
        exact ⟨⟨a7, trivial⟩, rfl⟩
      have m0 : mk &&& Int32.ofInt 1 = 0 ↔ ¬ ib mk 0 = true := and_0 (x := mk) (v := Int32.ofInt 1) (j := 0) (by decide) rfl
      have m2 : mk &&& Int32.ofInt 4 = 0 ↔ ¬ ib mk 2 = true := and_0 (x := mk) (v := Int32.ofInt 4) (j := 2) (by decide) rfl
      have h170 : ∀ P : Prop, HX95_gather_170 b (gB bl k) mk (bz P) M4 ∧ GX95_gather_170 b (gB bl k) mk (bz P) M4 = fi (¬ ib mk 2 = true ∧ ¬ P ∧ (nuT b M (gB bl k + Int64.ofInt 8) 4 = 0 ∨ inR (nuT b M (gB bl k) 8) (ul (nuT b M (gB bl k + Int64.ofInt 8) 4))))
          (.inl (b, nI (ul (nuT b M (gB bl k + Int64.ofInt 14) 2)), bz (ib mk 0 = true), fm_sI M4 339 b 0 (nI (pre.length + 1)))) (.inr (Int32.ofInt 0, M4)) := fun P => by
        unfold HX95_gather_170 GX95_gather_170 GX95_gather_208
        dsimp only
        rw [propext m2, k4, e40, e41, ec, v0, v1, th4, propext m0, (h222 _).2, (h222 _).2]
        dsimp only
        rw [fi_bz, fi_bz]
        refine ⟨⟨fun _ => ⟨fun _ => ⟨in40, in41, fun _ => trivial, fun _ => ⟨fun _ => (h222 _).1, fun _ => (h222 _).1⟩⟩, fun _ => trivial⟩, fun _ => trivial⟩, ?_⟩
        by_cases q2 : ib mk 2 = true
        · rw [fi_neg (fun z => z q2), fi_neg (fun z => z.1 q2)]
        · rw [fi_pos q2]
          by_cases qP : P
          · rw [fi_pos qP, fi_neg (fun z => z.2.1 qP)]
          · rw [fi_neg qP]
            by_cases qt : nuT b M (gB bl k + Int64.ofInt 8) 4 = 0 ∨ inR (nuT b M (gB bl k) 8) (ul (nuT b M (gB bl k + Int64.ofInt 8) 4))
            · rw [fi_pos qt, fi_pos (show (¬ ib mk 2 = true ∧ ¬ P ∧ (nuT b M (gB bl k + Int64.ofInt 8) 4 = 0 ∨ inR (nuT b M (gB bl k) 8) (ul (nuT b M (gB bl k + Int64.ofInt 8) 4)))) from ⟨q2, qP, qt⟩)]
              by_cases q0 : ib mk 0 = true
              · rw [fi_neg (fun z => z q0), bz_t q0]
              · rw [fi_pos q0, bz_f q0]
            · rw [fi_neg qt, fi_neg (fun z => qt z.2.2)]
      have h0 := h170 False
      have h1 := h170 True
      rw [← bz0] at h0
      rw [← bz1] at h1
      have ok : gOk (nuT b M) bl k (lstB pre).2.2 ↔ (¬ ib mk 2 = true ∧ ¬ ((lstB pre).2.2 = true ∧ ib mk 1 = false) ∧ (nuT b M (gB bl k + Int64.ofInt 8) 4 = 0 ∨ inR (nuT b M (gB bl k) 8) (ul (nuT b M (gB bl k + Int64.ofInt 8) 4)))) := by
        unfold gOk gBk
        rw [hmm]
      have i0 : (nI pre.length ≤ 0) ↔ pre.length = 0 := by
        rw [show (0 : Int32) = nI 0 from rfl, i_le (by rw [ui_nI]; omega) (by rw [ui_nI]; omega), ui_nI, ui_nI]
        omega
      have G4 : Gt b (fm_sI M4 339 b 0 (nI (pre.length + 1))) (pre ++ [gBk (nuT b M) bl k]) := by
        refine ⟨?_, fun j hj => ?_⟩
        · rw [rI, if_pos ⟨rfl, rfl, rfl⟩, List.length_append]
          rfl
        · rw [List.length_append] at hj
          have hj' : j < pre.length + 1 := hj
          show M4.2.1 3 (M4.2.2 340 b 0) j = _ ∧ M4.2.1 3 (M4.2.2 341 b 0) j = _ ∧ (fm_sI M4 339 b 0 (nI (pre.length + 1))).1 3 (M4.2.2 342 b 0) j = _
          rw [oI (fun q => absurd q.1 (by decide)), e40, e41, e4', l4, s19', s19, s4]
          by_cases q : j = pre.length
          · rw [if_pos q, if_pos q, if_pos q, q, getD_r]
            unfold gBk
            rw [hmm]
            exact ⟨rfl, rfl, rfl⟩
          · have hj2 : j < pre.length := by omega
            rw [if_neg q, if_neg q, if_neg q, getD_l hj2]
            have y := g2 j hj2
            rw [e340, e341, e342] at y
            exact y
      have T5 : Ty (fm_sI M4 339 b 0 (nI (pre.length + 1))) := ⟨t4.1, tyb_sI rfl t4.2⟩
      rw [k4, propext i0, e4']
      by_cases hz : pre.length = 0
      · have lp : (lstB pre).2.2 = false := by
          rw [List.length_eq_zero_iff.mp hz]
          rfl
        rw [fi_pos hz, h0.2]
        refine ⟨⟨in4, fun _ => h0.1, fun q => absurd hz q⟩, M4, f4, t4, ?_, T5, G4⟩
        refine fi_c ?_
        rw [ok, lp]
        exact ⟨fun q => ⟨q.1, fun z => absurd z.1 (by decide), q.2.2⟩, fun q => ⟨q.1, id, q.2.2⟩⟩
      · have ep : nI pre.length - Int32.ofInt 1 = nI (pre.length - 1) := by
          obtain ⟨y, hy⟩ : ∃ y, pre.length = y + 1 := ⟨pre.length - 1, by omega⟩
          rw [hy, n_dn (by omega)]
          rfl
        have ecp : (nI (pre.length - 1)).toNatClampNeg = pre.length - 1 := o_cl (by omega)
        have inp : fm_in M4 (M.2.2 342 b 0) (nI (pre.length - 1)) = true := in_nI (N := 16) (by rw [f4.1]; exact l342) (by omega) (by decide)
        have vl : M4.1 3 (M.2.2 342 b 0) (pre.length - 1) = bz ((lstB pre).2.2 = true) := by
          rw [s4, if_neg (by omega), lstB_d (by omega) (0, 0, false)]
          have y := (g2 (pre.length - 1) (by omega)).2.2
          rw [e342] at y
          exact y
        have vm : M4.1 3 (M.2.2 342 b 0) pre.length = bz (ib mk 1 = true) := by rw [s4, if_pos rfl]
        rw [fi_neg hz, ep, ecp, vl, ec, vm, h0.2, h1.2, fi_bz, fi_bz]
        refine ⟨⟨in4, fun q => absurd q hz, fun _ => ⟨inp, fun _ => h0.1, fun _ => ⟨in42, fun _ => h1.1, fun _ => h0.1⟩⟩⟩, M4, f4, t4, ?_, T5, G4⟩
        cases hlp : (lstB pre).2.2 with
        | false =>
          rw [fi_neg (by decide)]
          refine fi_c ?_
          rw [hlp] at ok
          rw [ok]
          exact ⟨fun q => ⟨q.1, fun z => absurd z.1 (by decide), q.2.2⟩, fun q => ⟨q.1, id, q.2.2⟩⟩
        | true =>
          rw [fi_pos rfl]
          cases hm1 : ib mk 1 with
          | true =>
            rw [fi_pos rfl]
            refine fi_c ?_
            rw [hlp, hm1] at ok
            rw [ok]
            exact ⟨fun q => ⟨q.1, fun z => absurd z.2 (by decide), q.2.2⟩, fun q => ⟨q.1, id, q.2.2⟩⟩
          | false =>
            rw [fi_neg (by decide)]
            refine fi_c ?_
            rw [hlp, hm1] at ok
            rw [ok]
            exact ⟨fun q => absurd trivial q.2.1, fun q => absurd ⟨rfl, rfl⟩ q.2.1⟩
    obtain ⟨x1, M4, x2, x3, x4, x5⟩ := core
    have and2 := and_0 (x := gMk (nuT b M) bl k) (v := Int32.ofInt 2) (j := 1) (by decide) rfl
    have hG : GX95_gather_9 b (nI k) (Int32.ofInt 1) M' = GX95_gather_131 b (gB bl k) (gMk (nuT b M) bl k) (M.2.2 342 b 0) (nI pre.length) (bz (ib (gMk (nuT b M) bl k) 1 = true)) M19 := by
      unfold GX95_gather_9
      rw [fi_neg nz1]
      extract_lets x7 x8 r9 r10 x11 r12 x13 x14 X15 r16 x17 x18 X19
      have e8 : x8 = gB bl k := eB
      have q9 : r9 = (bz (inR (gB bl k) 16), M') := by show GX95_isThere x8 _ M' = _; rw [e8]; exact th
      have q10 : r10 = (nuT b M (gB bl k + Int64.ofInt 12) 2, M') := by show GX95_number b (x8 + _) _ r9.2 = _; rw [e8, q9]; exact a2
      have q11 : x11 = gMk (nuT b M) bl k := by show r10.1.toInt32 = _; rw [q10]; rfl
      have q12 : r12 = (nuT b M (gB bl k) 8, M') := by show GX95_number b x8 _ r10.2 = _; rw [e8, q10]; exact a4
      have q15 : X15 = M15 := by
        show fm_sL r12.2 3 (r10.2.2.2 340 b 0) (r10.2.1 339 b 0).toNatClampNeg r12.1 = _
        rw [q12, q10, hM15]
        dsimp only
        rw [g1, e340, ec]
      have q16 : r16 = (nuT b M (gB bl k + Int64.ofInt 8) 4, M15) := by show GX95_number b (x8 + _) _ X15 = _; rw [e8, q15]; exact a6
      have q19 : X19 = M19 := by
        show fm_sL r16.2 3 (X15.2.2 341 b 0) (X15.1 339 b 0).toNatClampNeg r16.1 = _
        rw [q16, q15, hM19]
        dsimp only
        rw [e15, e15', ec]
      rw [propext c1, fi_neg (fun z => z hk1), fi_neg c2, q9, q11, e8, q19]
      dsimp only
      rw [fi_bz, fi_pos hin, e19, e19', propext and2]
      by_cases q : ib (gMk (nuT b M) bl k) 1 = true
      · rw [fi_neg (fun z => z q), bz_t q]
      · rw [fi_pos q, bz_f q]
    rw [hG, x4]
    refine ⟨?_, M4, x2, x3, (fi_pos (⟨hk1, hin⟩ : k < size ∧ inR (gB bl k) 16)).symm, fun _ => x5⟩
    unfold HX95_gather_9
    refine ⟨fun q => absurd q nz1, fun _ => ?_⟩
    intro x7 x8
    have e8 : x8 = gB bl k := eB
    refine ⟨fun _ => trivial, fun _ => ⟨fun _ => trivial, fun _ => ?_⟩⟩
    intro r9
    have q9 : r9 = (bz (inR (gB bl k) 16), M') := by show GX95_isThere x8 _ M' = _; rw [e8]; exact th
    refine ⟨fun _ => trivial, fun _ => ⟨by rw [e8, q9]; exact a1, ?_⟩⟩
    intro r10 x11
    have q10 : r10 = (nuT b M (gB bl k + Int64.ofInt 12) 2, M') := by show GX95_number b (x8 + _) _ r9.2 = _; rw [e8, q9]; exact a2
    have q11 : x11 = gMk (nuT b M) bl k := by show r10.1.toInt32 = _; rw [q10]; rfl
    refine ⟨by rw [e8, q10]; exact a3, ?_⟩
    intro r12 x13 x14
    have q12 : r12 = (nuT b M (gB bl k) 8, M') := by show GX95_number b x8 _ r10.2 = _; rw [e8, q10]; exact a4
    have q13 : x13 = nI pre.length := by show r10.2.1 339 b 0 = _; rw [q10]; exact g1
    have q14 : x14 = M.2.2 340 b 0 := by show r10.2.2.2 340 b 0 = _; rw [q10]; exact e340
    refine ⟨by rw [q12, q13, q14]; exact in15, ?_⟩
    intro X15
    have q15 : X15 = M15 := by
      show fm_sL r12.2 3 x14 x13.toNatClampNeg r12.1 = _
      rw [q12, q13, q14, hM15, ec]
    refine ⟨by rw [e8, q15]; exact a5, ?_⟩
    intro r16 x17 x18
    have q16 : r16 = (nuT b M (gB bl k + Int64.ofInt 8) 4, M15) := by show GX95_number b (x8 + _) _ X15 = _; rw [e8, q15]; exact a6
    have q17 : x17 = nI pre.length := by show X15.1 339 b 0 = _; rw [q15]; exact e15
    have q18 : x18 = M.2.2 341 b 0 := by show X15.2.2 341 b 0 = _; rw [q15]; exact e15'
    refine ⟨by rw [q16, q17, q18]; exact in19, ?_⟩
    intro X19
    have q19 : X19 = M19 := by
      show fm_sL r16.2 3 x18 x17.toNatClampNeg r16.1 = _
      rw [q16, q17, q18, hM19, ec]
    rw [e8, q11, q19, e19, e19', propext and2]
    refine ⟨fun q => ?_, fun q => ?_⟩
    · rw [bz_f q] at x1
      exact x1
    · rw [bz_t (Classical.not_not.mp q)] at x1
      exact x1
  · by_cases hk1 : k < size
    · have hin : ¬ inR (gB bl k) 16 := fun q => hkin ⟨hk1, q⟩
      constructor
      · unfold HX95_gather_9
        refine ⟨fun q => absurd q nz1, fun _ => ?_⟩
        intro x7 x8
        have e8 : x8 = gB bl k := eB
        refine ⟨fun _ => trivial, fun _ => ⟨fun _ => trivial, fun _ => ?_⟩⟩
        intro r9
        have q9 : r9 = (bz (inR (gB bl k) 16), M') := by show GX95_isThere x8 _ M' = _; rw [e8]; exact th
        rw [q9]
        exact ⟨fun _ => trivial, fun q => absurd (bz_0.mpr hin) q⟩
      · refine ⟨M', h, T', ?_, fun q => absurd q hkin⟩
        rw [fi_neg hkin]
        unfold GX95_gather_9
        rw [fi_neg nz1]
        extract_lets x7 x8 r9
        have e8 : x8 = gB bl k := eB
        have q9 : r9 = (bz (inR (gB bl k) 16), M') := by show GX95_isThere x8 _ M' = _; rw [e8]; exact th
        rw [propext c1, fi_neg (fun z => z hk1), fi_neg c2, q9]
        dsimp only
        rw [fi_bz, fi_neg hin]
        rfl
    · constructor
      · unfold HX95_gather_9
        refine ⟨fun q => absurd q nz1, fun _ => ?_⟩
        intro x7 x8
        exact ⟨fun _ => trivial, fun q => absurd (c1.mpr hk1) q⟩
      · refine ⟨M', h, T', ?_, fun q => absurd q hkin⟩
        rw [fi_neg hkin]
        unfold GX95_gather_9
        rw [fi_neg nz1]
        extract_lets x7 x8
        rw [fi_pos (c1.mpr hk1)]
        rfl
end Gt
