/-! disks: a request that was gathered; the twin's request by its kind -/
set_option maxRecDepth 100000
def Rq (b c : Nat) (M : FM) (l : List Blk) : Prop := TrI c M ∧ (fm_is M 93 93 b = true ∧ M.2.2 326 b 0 = c ∧ M.1 325 b 0 = Int32.ofInt 2048) ∧ Gt b M l ∧ l.length ≤ 16 ∧ okG l ∧ opn false l ∧ (∀ x, x ∈ l → ul x.2.1 < 2 ^ 32) ∧ ∀ x, x ∈ l → x.2.1 = 0 ∨ inR x.1 (ul x.2.1)
noncomputable def eaL (l : List Blk) : Int64 := ((lstB l).1 + (lstB l).2.1) - Int64.ofInt 1
theorem totS_m : ∀ (L : List Seg) (x : Seg), x ∈ L → ul x.2 ≤ totS L
  | [], x, h => by cases h
  | y :: t, x, h => by
    show ul x.2 ≤ ul y.2 + totS t
    rcases List.mem_cons.mp h with rfl | h
    · omega
    · have := totS_m t x h
      omega
theorem lstB_m {l : List Blk} (h : 0 < l.length) : lstB l ∈ l := by
  rw [lstB_d h (0, 0, false), List.getD_eq_getElem?_getD, List.getElem?_eq_getElem (by omega)]
  exact List.getElem_mem _
theorem lstB_ap {a b : List Blk} (h : b ≠ []) : lstB (a ++ b) = lstB b := by
  have hb : 0 < b.length := by
    cases b with
    | nil => exact absurd rfl h
    | cons _ _ => exact Nat.succ_pos _
  rw [lstB_d (by rw [List.length_append]; omega) (0, 0, false), lstB_d hb (0, 0, false), List.length_append, show a.length + b.length - 1 = a.length + (b.length - 1) by omega, getD_ap]
section Rs
variable {b c : Nat} {M : FM} {l : List Blk}
theorem rq_s (Q : Rq b c M l) : ∃ h0 cl op, l = h0 :: (cl ++ op) ∧ (∀ x, x ∈ cl → x.2.2 = false) ∧ (∀ x, x ∈ op → x.2.2 = true) ∧ op ≠ [] ∧ inR h0.1 16 ∧ clL l = sgLk cl ∧ opL l = sgLk op ∧ 0 < totS (sgLk op) ∧ okS (sgLk cl) ∧ okS (sgLk op) ∧ EndT b (eaL l) M ∧ inR (eaL l) 1 := by
  obtain ⟨I, ⟨n, hc, hs⟩, g, h16, hg, ho, hl, hr⟩ := Q
  cases l with
  | nil => exact absurd hg.1.1 (by decide)
  | cons h0 t =>
    have hg1 : h0.2.2 = false ∧ 16 ≤ ul h0.2.1 := hg.1
    obtain ⟨cl, op, e1, e2, e3⟩ := opn_s t h0.2.2 ho.2
    have hop : op ≠ [] := fun z => by
      have hm := lstB_m (l := h0 :: t) (Nat.succ_pos _)
      have h1 := hg.2.1
      rcases List.mem_cons.mp hm with q | q
      · rw [q, hg1.1] at h1
        cases h1
      · rw [e1, z, List.append_nil] at q
        rw [e1, z, List.append_nil] at h1
        rw [e2 _ q] at h1
        cases h1
    have hlst : lstB (h0 :: t) = lstB op := by
      rw [e1, show h0 :: (cl ++ op) = (h0 :: cl) ++ op from rfl, lstB_ap hop]
    have hop0 : 0 < op.length := by
      cases op with
      | nil => exact absurd rfl hop
      | cons _ _ => exact Nat.succ_pos _
    have hlm : lstB op ∈ op := lstB_m hop0
    have hin : ∀ x, x ∈ cl ++ op → x ∈ h0 :: t := fun x hx => by rw [e1]; exact List.mem_cons.mpr (Or.inr hx)
    have hlast := hg.2.2
    have hlm2 : lstB op ∈ h0 :: t := hin _ (List.mem_append.mpr (Or.inr hlm))
    have hln : op.length + cl.length ≤ 15 := by
      have := h16
      rw [e1, List.length_cons, List.length_append] at this
      omega
    refine ⟨h0, cl, op, by rw [e1], e2, e3, hop, ?_, ?_, ?_, ?_, ?_, ?_, ?_, ?_⟩
    · rcases hr h0 (List.mem_cons.mpr (Or.inl rfl)) with z | z
      · have h2 := hg1.2
        rw [z] at h2
        exact absurd h2 (by decide)
      · unfold inR at *
        omega
    · rw [clL_f, List.tail_cons, e1, flB_a, flB_y e2, flB_n (o := false) (fun x hx => e3 x hx), List.append_nil]
    · rw [opL_f, List.tail_cons, e1, flB_a, flB_n (o := true) (fun x hx => e2 x hx), flB_y e3, List.nil_append]
    · have : ul (lstB op).2.1 ≤ totS (sgLk op) := totS_m (sgLk op) ((lstB op).1, (lstB op).2.1) (List.mem_map.mpr ⟨_, hlm, rfl⟩)
      rw [hlst] at hlast
      omega
    · exact okS_g (by omega) (fun x hx => hl x (hin x (List.mem_append.mpr (Or.inl hx)))) (fun x hx => hr x (hin x (List.mem_append.mpr (Or.inl hx))))
    · exact okS_g (by omega) (fun x hx => hl x (hin x (List.mem_append.mpr (Or.inr hx)))) (fun x hx => hr x (hin x (List.mem_append.mpr (Or.inr hx))))
    · obtain ⟨g1, g2⟩ := g
      obtain ⟨y1, y2, _⟩ := g2 ((h0 :: t).length - 1) (by rw [List.length_cons]; omega)
      refine ⟨(h0 :: t).length, Nat.succ_pos _, h16, g1, ?_⟩
      unfold eaL
      rw [y1, y2, ← lstB_d (l := h0 :: t) (Nat.succ_pos _) (0, 0, false)]
    · unfold eaL
      rcases hr _ (lstB_m (l := h0 :: t) (Nat.succ_pos _)) with z | z
      · rw [z] at hlast
        exact absurd hlast (by decide)
      · unfold inR at *
        have := hl _ (lstB_m (l := h0 :: t) (Nat.succ_pos _))
        rw [ul_sub, ul_add, show ul (Int64.ofInt 1) = 1 from rfl]
        omega
theorem l_one {n : Nat} (h : 0 < n) : Int64.ofInt (-1) + lN n = lN (n - 1) := ul_inj (by
  rw [ul_add, ul_lN, ul_lN, show ul (Int64.ofInt (-1)) = 18446744073709551615 by decide]
  omega)
theorem l_sub1 {n : Nat} (h : 0 < n) : lN n - Int64.ofInt 1 = lN (n - 1) := ul_inj (by
  rw [ul_sub, ul_lN, ul_lN, show ul (Int64.ofInt 1) = 1 from rfl]
  omega)
/-- what the twin does by the kind of the request -/
noncomputable def rqG (b : Nat) (M : FM) (l : List Blk) (kd : Nat) (sec : Int64) : (Nat × Int64 × Int32 × Int64 × Int64 × FM) ⊕ (Nat × Int64 × Int64 × Int32 × Int64 × Int64 × FM) ⊕ (Nat × Int32 × Int64 × Int64 × FM) ⊕ (Int64 × FM) :=
  fi (kd = 0) (GX95_request_70 b sec (lN (totS (opL l) - 1)) (bz (¬ okD sec (totS (opL l) - 1))) M)
    (fi (kd = 1) (GX95_request_160 b sec (lN (totS (clL l))) (Int64.ofInt 0) (bz (¬ okD sec (totS (clL l)))) M)
      (fi (kd = 8) (GX95_request_262 b (Int32.ofInt 0) (lN (min 20 (totS (opL l) - 1))) M)
        (fi (kd = 4) (GX95_request_384 b (Int32.ofInt 0) (Int64.ofInt 0) M) (GX95_request_384 b (Int32.ofInt 2) (Int64.ofInt 0) M))))
def rqH (b : Nat) (M : FM) (l : List Blk) (kd : Nat) (sec : Int64) : Prop :=
  (kd = 0 → HX95_request_70 b sec (lN (totS (opL l) - 1)) (bz (¬ okD sec (totS (opL l) - 1))) M) ∧
  (kd = 1 → HX95_request_160 b sec (lN (totS (clL l))) (Int64.ofInt 0) (bz (¬ okD sec (totS (clL l)))) M) ∧
  (kd = 8 → HX95_request_262 b (Int32.ofInt 0) (lN (min 20 (totS (opL l) - 1))) M) ∧
  (kd = 4 → HX95_request_384 b (Int32.ofInt 0) (Int64.ofInt 0) M) ∧ (¬ kd = 0 → ¬ kd = 1 → ¬ kd = 8 → ¬ kd = 4 → HX95_request_384 b (Int32.ofInt 2) (Int64.ofInt 0) M)
theorem bz_ng {P : Prop} {α : Type} {F : Int32 → α} : fi (bz P = 0) (F (Int32.ofInt 1)) (F (Int32.ofInt 0)) = F (bz (¬ P)) := by
  rw [fi_bz]
  by_cases h : P
  · rw [fi_pos h, bz_f (fun q => q h)]
  · rw [fi_neg h, bz_t h]
theorem X95_request_pre (Q : Rq b c M l) {h0 : Blk} {t : List Blk} (el : l = h0 :: t) (hh : inR h0.1 16) (ht : 0 < totS (opL l)) (h37 : totS (opL l) < 1099511627776 ∧ totS (clL l) < 1099511627776)
    (kd : Nat) (hkd : ul (nuT b M h0.1 4) = kd) (sec : Int64) (hsec : nuT b M (h0.1 + Int64.ofInt 8) 8 = sec) :
    GX95_request_0 b M = rqG b M l kd sec ∧ (rqH b M l kd sec → HX95_request_0 b M) := by
  have Q0 := Q
  obtain ⟨I, ⟨n, hc, hs⟩, g, h16, hg, ho, hl, hr⟩ := Q
  have lp : 0 < l.length := by rw [el]; exact Nat.succ_pos _
  obtain ⟨g1, _, _⟩ := g.2 0 lp
  have g1 : M.2.1 3 (M.2.2 340 b 0) 0 = h0.1 := by rw [g1, el]; rfl
  have h8 : inR (h0.1 + Int64.ofInt 8) 8 := by
    unfold inR at *
    rw [ul_add, show ul (Int64.ofInt 8) = 8 from rfl]
    omega
  have h4 : inR h0.1 4 := by unfold inR at *; omega
  obtain ⟨a1, a2⟩ := nuT_e (s := 4) I.1 n I.2.2.1 hc h4 (by decide)
  obtain ⟨b1, b2⟩ := nuT_e (s := 8) I.1 n I.2.2.1 hc h8 (by decide)
  obtain ⟨⟨d1, d2⟩, d3, d4⟩ := X95_data I.1 n g h16 lp
  rw [l_one ht] at d2
  have a2 : GX95_number b h0.1 (Int32.ofInt 4) M = (nuT b M h0.1 4, M) := a2
  have b2 : GX95_number b (h0.1 + Int64.ofInt 8) (Int32.ofInt 8) M = (sec, M) := by rw [← hsec]; exact b2
  have a1 : HX95_number b h0.1 (Int32.ofInt 4) M := a1
  have b1 : HX95_number b (h0.1 + Int64.ofInt 8) (Int32.ofInt 8) M := b1
  have s1 := X95_areSectors (sec := sec) (b := b) (M := M) (n := totS (opL l) - 1) hs (by omega)
  have s2 := X95_areSectors (sec := sec) (b := b) (M := M) (n := totS (clL l)) hs h37.2
  have ek : ∀ i : Nat, i < 16 → ((lg_cmp (nuT b M h0.1 4) (lN i) = 0) = (kd = i)) := fun i hi => propext (by rw [cl_eq, hkd, l_big (by omega)])
  have e0 : (lg_cmp (nuT b M h0.1 4) (Int64.ofInt 0) = 0) = (kd = 0) := ek 0 (by decide)
  have e1 : (lg_cmp (nuT b M h0.1 4) (Int64.ofInt 1) = 0) = (kd = 1) := ek 1 (by decide)
  have e8 : (lg_cmp (nuT b M h0.1 4) (Int64.ofInt 8) = 0) = (kd = 8) := ek 8 (by decide)
  have e4 : (lg_cmp (nuT b M h0.1 4) (Int64.ofInt 4) = 0) = (kd = 4) := ek 4 (by decide)
  have e20 : (0 ≤ lg_cmp (lN (totS (opL l) - 1)) (Int64.ofInt 20)) = (20 ≤ totS (opL l) - 1) := propext (b_ge (k := 20) (by omega) (by decide))
  have z0 : (Int32.ofInt 0).toNatClampNeg = 0 := by decide
  constructor
  · unfold GX95_request_0 rqG
    dsimp only
    rw [z0, g1, a2]
    dsimp only
    rw [g1, b2]
    dsimp only
    rw [d2]
    dsimp only
    rw [d4]
    dsimp only
    rw [s1, s2, e0, e1, e8, e4, e20]
    dsimp only
    rw [bz_ng (F := fun z => GX95_request_70 b sec (lN (totS (opL l) - 1)) z M), bz_ng (F := fun z => GX95_request_160 b sec (lN (totS (clL l))) (Int64.ofInt 0) z M)]
    congr 3
    by_cases h : 20 ≤ totS (opL l) - 1
    · rw [fi_pos h, Nat.min_eq_left h]
      rfl
    · rw [fi_neg h, Nat.min_eq_right (by omega)]
  · intro hH
    unfold HX95_request_0
    dsimp only
    rw [z0, g1, a2]
    dsimp only
    rw [g1, b2]
    dsimp only
    rw [d2]
    dsimp only
    rw [d4]
    dsimp only
    rw [s1, s2, e0, e1, e8, e4, e20]
    dsimp only
    obtain ⟨H0, H1, H8, H4, H5⟩ := hH
    refine ⟨a1, b1, d1, d3, fun k0 => ⟨fun q => ?_, fun q => ?_⟩, fun k0 => ⟨fun k1 => ⟨fun q => ?_, fun q => ?_⟩, fun k1 => ⟨fun k8 => ⟨fun q => ?_, fun q => ?_⟩, fun k8 => ⟨H4, fun k4 => H5 k0 k1 k8 k4⟩⟩⟩⟩
    · have := H0 k0
      rw [bz_t (show ¬ okD sec (totS (opL l) - 1) from bz_0.mp q)] at this
      exact this
    · have := H0 k0
      rw [bz_f (fun w => q (bz_0.mpr w))] at this
      exact this
    · have := H1 k1
      rw [bz_t (show ¬ okD sec (totS (clL l)) from bz_0.mp q)] at this
      exact this
    · have := H1 k1
      rw [bz_f (fun w => q (bz_0.mpr w))] at this
      exact this
    · have := H8 k8
      rw [Nat.min_eq_left q] at this
      exact this
    · have := H8 k8
      rw [Nat.min_eq_right (by omega)] at this
      exact this
end Rs
