/-! disks: the twin gathers a request -/
set_option maxRecDepth 100000
theorem nuT_lt {b c : Nat} {M : FM} {a : Int64} {s : Nat} (T : Ty M) (n : fm_is M 93 93 b = true) (nc : fm_is M 98 98 c = true) (hc : M.2.2 326 b 0 = c) (ha : inR a s) (h8 : s ≤ 8) : ul (nuT b M a s) < 2 ^ (8 * s) := by
  obtain ⟨_, v, h2, h3⟩ := X95_number T n nc hc ha h8
  unfold nuT
  rw [h2]
  refine Nat.lt_pow_two_of_testBit _ (fun i hi => ?_)
  have := h3 i
  rw [decide_eq_false (by omega), Bool.false_and] at this
  exact this
theorem gB_in {bl : Int64} {k : Nat} (hin : inR (gB bl k) 16) (o s : Nat) (q : o + s ≤ 16) : inR (gB bl k + lN o) s := by
  unfold inR at *
  rw [ul_add, l_big (by omega)]
  omega
theorem getD_0 {l : List Blk} (h : 0 < l.length) (d e : Blk) : l.getD 0 d = l.getD 0 e := by
  rw [List.getD_eq_getElem?_getD, List.getD_eq_getElem?_getD, List.getElem?_eq_getElem h]
  rfl
section Gl
variable {b c : Nat} {M : FM} {size : Nat} {bl : Int64}
theorem gT_end {N : FM} {pre : List Blk} {k : Int32} {J : Nat} (T : Ty N) (n : fm_is N 93 93 b = true) (g : Gt b N pre) (hp : 0 < pre.length) (h16 : pre.length ≤ 16) (hl : ∀ x, x ∈ pre → ul x.2.1 < 2 ^ 32) :
    FX95_gather_L9 fN (J + 1) b k (Int32.ofInt 0) N = some (bz (okG pre), N) := by
  have p32 : (2 : Nat) ^ 32 = 4294967296 := by decide
  obtain ⟨g1, g2⟩ := g
  obtain ⟨z0, z1, z2⟩ := g2 0 hp
  obtain ⟨y0, y1, y2⟩ := g2 (pre.length - 1) (by omega)
  have ep : nI pre.length - Int32.ofInt 1 = nI (pre.length - 1) := by
    obtain ⟨y, hy⟩ : ∃ y, pre.length = y + 1 := ⟨pre.length - 1, by omega⟩
    rw [hy, n_dn (by omega)]
    rfl
  have ecp : (nI (pre.length - 1)).toNatClampNeg = pre.length - 1 := o_cl (by omega)
  have inl : ∀ A, N.2.2 1 A 0 = 16 → fm_in N A (nI (pre.length - 1)) = true := fun A hA => in_nI hA (by omega) (by decide)
  have l341 := tL_341 T.1 n
  have l342 := tL_342 T.1 n
  have m0 : pre.getD 0 (0, 0, false) ∈ pre := by
    rw [List.getD_eq_getElem?_getD, List.getElem?_eq_getElem hp]
    exact List.getElem_mem hp
  have ml : pre.getD (pre.length - 1) (0, 0, false) ∈ pre := by
    rw [List.getD_eq_getElem?_getD, List.getElem?_eq_getElem (by omega)]
    exact List.getElem_mem _
  have b0 := hl _ m0
  have bL := hl _ ml
  have el := lstB_d hp (0, 0, false)
  have e0 : pre.getD 0 (0, 0, true) = pre.getD 0 (0, 0, false) := getD_0 hp _ _
  have c16 : ∀ v : Int64, ul v < 4294967296 → (lg_cmp v (Int64.ofInt 16) < 0 ↔ ¬ 16 ≤ ul v) := fun v hv => by
    rw [cl_lt, tl, tl, if_pos (by omega), show ul (Int64.ofInt 16) = 16 from rfl, if_pos (by decide)]
    omega
  have c00 : ∀ v : Int64, ul v < 4294967296 → (lg_cmp v (Int64.ofInt 0) ≤ 0 ↔ ¬ 0 < ul v) := fun v hv => by
    rw [cl_le, tl, tl, if_pos (by omega), show ul (Int64.ofInt 0) = 0 from rfl, if_pos (by decide)]
    omega
  have H : HX95_gather_9 b k (Int32.ofInt 0) N ∧ GX95_gather_9 b k (Int32.ofInt 0) N = .inr (bz (okG pre), N) := by
    constructor
    · unfold HX95_gather_9
      refine ⟨fun _ => ?_, fun q => absurd rfl q⟩
      intro x1
      refine ⟨fun _ => ?_, fun _ => trivial⟩
      intro x2
      refine ⟨fun _ => trivial, fun _ => ?_⟩
      intro x3 x4
      have q3 : x3 = nI (pre.length - 1) := by show N.1 339 b 0 - _ = _; rw [g1, ep]
      refine ⟨by rw [q3]; exact inl _ l342, fun _ => trivial, fun _ => ?_⟩
      intro x5 x6
      have q5 : x5 = nI (pre.length - 1) := q3
      exact ⟨by rw [q5]; exact inl _ l341, trivial⟩
    · unfold GX95_gather_9 GX95_gather_305 GX95_gather_306
      rw [fi_pos (show Int32.ofInt 0 = 0 from rfl)]
      dsimp only
      rw [g1, ep, ecp, show (Int32.ofInt 0).toNatClampNeg = 0 from rfl, z1, z2, y1, y2, propext (c16 _ (by omega)), propext (c00 _ (by omega)), propext (bz_b _), propext (bz_b _)]
      unfold okG
      rw [e0, el]
      generalize pre.getD 0 (0, 0, false) = P0 at *
      generalize pre.getD (pre.length - 1) (0, 0, false) = P1 at *
      by_cases k1 : P0.2.2 = false
      · rw [fi_pos k1]
        by_cases k2 : 16 ≤ ul P0.2.1
        · rw [fi_neg (fun z => z k2)]
          by_cases k3 : P1.2.2 = false
          · rw [fi_pos k3, bz_f (fun z => by rw [k3] at z; exact absurd z.2.1 (by decide))]
          · rw [fi_neg k3]
            have k3' : P1.2.2 = true := by
              cases h : P1.2.2 with
              | true => rfl
              | false => exact absurd h k3
            by_cases k4 : 0 < ul P1.2.1
            · rw [fi_neg (fun z => z k4), bz_t ⟨⟨k1, k2⟩, k3', k4⟩]
            · rw [fi_pos k4, bz_f (fun z => k4 z.2.2)]
        · rw [fi_pos k2, bz_f (fun z => k2 z.1.2)]
      · rw [fi_neg k1, bz_f (fun z => k1 z.1.1)]
  show FX95_gather_9 fN (FX95_gather_L9 fN J) b k (Int32.ofInt 0) N = _
  rw [(gX95_gather_9 (FX95_gather_L9 fN J) b k (Int32.ofInt 0) N T n H.1).1, H.2]
  rfl
theorem gT_L (W : Wf M) (Tm : Ty M) (V : WbV b c M size bl) : ∀ m pre k J M', pre.length + m = size → k < 65536 → m + 1 < J → Frm (PBk b M) M M' → Ty M' → Gt b M' pre → (∀ x, x ∈ pre → ul x.2.1 < 2 ^ 32) →
    ∃ N, Frm (PBk b M) M N ∧ Ty N ∧ FX95_gather_L9 fN J b (nI k) (Int32.ofInt 1) M' = some (bz (∃ l, gthL (nuT b M) size bl m k (lstB pre).2.2 = some l ∧ okG (pre ++ l)), N) ∧
      ∀ l, gthL (nuT b M) size bl m k (lstB pre).2.2 = some l → Gt b N (pre ++ l) ∧ ∀ x, x ∈ pre ++ l → ul x.2.1 < 2 ^ 32 := by
  have hs := V.2.2.2.2.2
  intro m
  induction m with
  | zero =>
    intro pre k J M' hpm hk hJ h T' g hl
    obtain ⟨J, rfl⟩ : ∃ x, J = x + 1 := ⟨J - 1, by omega⟩
    have V' := pbk_V h Tm W V
    have e2 : M'.1 339 b 0 = M'.1 330 b 0 := by
      rw [g.1, V'.2.2.2.1]
      exact congrArg nI (by omega)
    have nz1 : ¬ (Int32.ofInt 1 : Int32) = 0 := by decide
    have H : HX95_gather_9 b (nI k) (Int32.ofInt 1) M' ∧ GX95_gather_9 b (nI k) (Int32.ofInt 1) M' = .inr (Int32.ofInt 0, M') := by
      constructor
      · unfold HX95_gather_9
        refine ⟨fun q => absurd q nz1, fun _ => ?_⟩
        intro x7 x8
        exact ⟨fun _ => trivial, fun _ => ⟨fun _ => trivial, fun q => absurd e2 q⟩⟩
      · unfold GX95_gather_9
        rw [fi_neg nz1]
        extract_lets x7 x8
        rw [fi_pos e2]
        exact fi_self
    refine ⟨M', h, T', ?_, fun l q => by cases q⟩
    show FX95_gather_9 fN (FX95_gather_L9 fN J) b (nI k) (Int32.ofInt 1) M' = _
    rw [(gX95_gather_9 (FX95_gather_L9 fN J) b (nI k) (Int32.ofInt 1) M' T' V'.1 H.1).1, H.2, bz_f (fun z => by obtain ⟨l, q, _⟩ := z; cases q)]
    rfl
  | succ m ih =>
    intro pre k J M' hpm hk hJ h T' g hl
    obtain ⟨J, rfl⟩ : ∃ x, J = x + 1 := ⟨J - 1, by omega⟩
    have V' := pbk_V h Tm W V
    obtain ⟨s1, M4, s2, s3, s4, s5⟩ := gT_step W Tm V h T' g (by omega) hk
    have G0 := (gX95_gather_9 (FX95_gather_L9 fN J) b (nI k) (Int32.ofInt 1) M' T' V'.1 s1).1
    rw [s4] at G0
    unfold gthL
    by_cases h1 : k < size ∧ inR (gB bl k) 16
    · rw [fi_pos h1] at G0
      rw [fi_pos h1]
      by_cases h2 : gOk (nuT b M) bl k (lstB pre).2.2
      · rw [fi_pos h2] at G0
        rw [fi_pos h2]
        obtain ⟨t5, g5⟩ := s5 h1
        have lb4 : ul (gBk (nuT b M) bl k).2.1 < 2 ^ 32 := nuT_lt (s := 4) Tm V.1 V.2.2.1 V.2.1 (gB_in h1.2 8 4 (by decide)) (by decide)
        have k2 : ul (nuT b M (gB bl k + Int64.ofInt 14) 2) < 65536 := nuT_lt (s := 2) Tm V.1 V.2.2.1 V.2.1 (gB_in h1.2 14 2 (by decide)) (by decide)
        have hl' : ∀ x, x ∈ pre ++ [gBk (nuT b M) bl k] → ul x.2.1 < 2 ^ 32 := fun x hx => by
          rcases List.mem_append.mp hx with q | q
          · exact hl x q
          · rw [List.mem_singleton.mp q]
            exact lb4
        have f5 : Frm (PBk b M) M (fm_sI M4 339 b 0 (nI (pre.length + 1))) := frm_I s2 (Or.inl ⟨rfl, by decide, by decide⟩)
        generalize fm_sI M4 339 b 0 (nI (pre.length + 1)) = M5 at *
        by_cases h3 : ib (gMk (nuT b M) bl k) 0 = true
        · rw [bz_t h3] at G0
          rw [fi_pos h3]
          obtain ⟨N, n1, n2, n3, n4⟩ := ih (pre ++ [gBk (nuT b M) bl k]) (ul (nuT b M (gB bl k + Int64.ofInt 14) 2)) J M5 (by rw [List.length_append]; show pre.length + 1 + m = size; omega) k2 (by omega) f5 t5 g5 hl'
          rw [lstB_a] at n3 n4
          have ep : (gBk (nuT b M) bl k).2.2 = ib (gMk (nuT b M) bl k) 1 := rfl
          rw [ep] at n3 n4
          refine ⟨N, n1, n2, G0.trans (n3.trans ?_), fun l q => ?_⟩
          · refine congrArg (fun z => some (z, N)) (bz_c ?_)
            constructor
            · intro ⟨l, q1, q2⟩
              refine ⟨gBk (nuT b M) bl k :: l, ?_, by rw [List.append_assoc] at q2; exact q2⟩
              rw [q1]
              rfl
            · intro ⟨l, q1, q2⟩
              cases hg : gthL (nuT b M) size bl m (ul (nuT b M (gB bl k + Int64.ofInt 14) 2)) (ib (gMk (nuT b M) bl k) 1) with
              | none => rw [hg] at q1; cases q1
              | some l' =>
                rw [hg] at q1
                cases q1
                exact ⟨l', rfl, by rw [List.append_assoc]; exact q2⟩
          · cases hg : gthL (nuT b M) size bl m (ul (nuT b M (gB bl k + Int64.ofInt 14) 2)) (ib (gMk (nuT b M) bl k) 1) with
            | none => rw [hg] at q; cases q
            | some l' =>
              rw [hg] at q
              cases q
              have y := n4 l' hg
              rw [List.append_assoc] at y
              exact y
        · rw [bz_f h3] at G0
          rw [fi_neg h3]
          obtain ⟨J, rfl⟩ : ∃ x, J = x + 1 := ⟨J - 1, by omega⟩
          have lp : (pre ++ [gBk (nuT b M) bl k]).length = pre.length + 1 := List.length_append
          have en := gT_end (k := nI (ul (nuT b M (gB bl k + Int64.ofInt 14) 2))) (J := J) t5 (frm_is f5 V.1) g5 (by omega) (by omega) hl'
          refine ⟨M5, f5, t5, G0.trans (en.trans (congrArg (fun z => some (z, M5)) (bz_c ?_))), fun l q => ?_⟩
          · exact ⟨fun q => ⟨_, rfl, q⟩, fun ⟨l, q1, q2⟩ => by cases q1; exact q2⟩
          · cases q
            exact ⟨g5, hl'⟩
      · rw [fi_neg h2] at G0
        rw [fi_neg h2]
        refine ⟨M4, s2, s3, G0.trans ?_, fun l q => by cases q⟩
        rw [bz_f (fun z => by obtain ⟨l, q, _⟩ := z; cases q)]
        rfl
    · rw [fi_neg h1] at G0
      rw [fi_neg h1]
      refine ⟨M', h, T', G0.trans ?_, fun l q => by cases q⟩
      rw [bz_f (fun z => by obtain ⟨l, q, _⟩ := z; cases q)]
      rfl
theorem X95_gather (W : Wf M) (Tm : Ty M) (V : WbV b c M size bl) {k : Nat} (hk : k < 65536) :
    ∃ N, Frm (PBk b M) M N ∧ Ty N ∧ HX95_gather b (nI k) M ∧ GX95_gather b (nI k) M = (bz (∃ l, gthL (nuT b M) size bl size k false = some l ∧ okG l), N) ∧
      ∀ l, gthL (nuT b M) size bl size k false = some l → Gt b N l ∧ ∀ x, x ∈ l → ul x.2.1 < 2 ^ 32 := by
  have f0 : Frm (PBk b M) M (fm_sI M 339 b 0 (Int32.ofInt 0)) := frm_I frm_r (Or.inl ⟨rfl, by decide, by decide⟩)
  have t0 : Ty (fm_sI M 339 b 0 (Int32.ofInt 0)) := ⟨Tm.1, tyb_sI rfl Tm.2⟩
  have g0 : Gt b (fm_sI M 339 b 0 (Int32.ofInt 0)) [] := ⟨if_pos ⟨rfl, rfl, rfl⟩, fun j hj => absurd hj (Nat.not_lt_zero j)⟩
  have hs := V.2.2.2.2.2
  obtain ⟨N, n1, n2, n3, n4⟩ := gT_L W Tm V size [] k fN _ (Nat.zero_add _) hk (by unfold fN; omega) f0 t0 g0 (fun x hx => by cases hx)
  have e : FX95_gather fN b (nI k) M = some (bz (∃ l, gthL (nuT b M) size bl size k false = some l ∧ okG l), N) := by
    show FX95_gather_0 fN (FX95_gather_L9 fN fN) b (nI k) M = _
    rw [(gX95_gather_0 (FX95_gather_L9 fN fN) b (nI k) M Tm V.1).1]
    exact n3
  obtain ⟨o1, o2⟩ := op_of (d := ((0 : Int32), M)) e (P := OkZ M) ⟨n2, frm_ext n1, bz_z _⟩
  exact ⟨N, n1, n2, o1, o2, n4⟩
end Gl
