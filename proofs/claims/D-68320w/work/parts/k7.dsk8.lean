/-! disks: the component gathers a request, whole -/
set_option maxRecDepth 100000
section Ge
variable {q x r rq : Nat} {M : FM} {size gv : Nat} {bl an : Int64}
theorem gC_end {N : FM} (h : Frm (PRq rq M) M N) (V : VQc q x r rq M size bl an gv) {pre : List Blk} {k : Int32} {J : Nat} (h0 : pre ≠ []) (hf : (pre.getD 0 (0, 0, false)).2.2 = false ∧ 16 ≤ ul (pre.getD 0 (0, 0, false)).2.1) (hl : ul (lstB pre).2.1 < 2 ^ 32) :
    FX20_gather_L34 fN (J + 1) q x rq k (nI pre.length) (Int32.ofInt 0) (bz ((lstB pre).2.2 = true)) (lstB pre).2.1 N = some (bz (okG pre ∧ ansP an gv size), N) := by
  have p32 : (2 : Nat) ^ 32 = 4294967296 := by decide
  have VN := vq_f h V
  obtain ⟨a1, a2⟩ := X20_answer VN
  obtain ⟨R', h202, nq', nx', hr', nr', S', v1, v2, v3, v4, v5, v6⟩ := VN
  have t1 := X19_has (M := N) (a := anA an gv size) (b := Int64.ofInt 8) hr' h202 (by decide)
  have t2 := X19_has (M := N) (a := an + Int64.ofInt 2) (b := Int64.ofInt 2) hr' h202 (by decide)
  rw [show ul (Int64.ofInt 8) = 8 from rfl] at t1
  rw [show ul (Int64.ofInt 2) = 2 from rfl] at t2
  have c0 : lg_cmp (lstB pre).2.1 (Int64.ofInt 0) ≤ 0 ↔ ¬ 0 < ul (lstB pre).2.1 := by
    rw [cl_le, tl, tl, if_pos (by omega), show ul (Int64.ofInt 0) = 0 from rfl, if_pos (by decide)]
    omega
  have e0 : pre.getD 0 (0, 0, true) = pre.getD 0 (0, 0, false) := getD_0 (List.length_pos_iff.mpr h0) _ _
  have H : HX20_gather_34 q x rq k (nI pre.length) (Int32.ofInt 0) (bz ((lstB pre).2.2 = true)) (lstB pre).2.1 N ∧ GX20_gather_34 q x rq k (nI pre.length) (Int32.ofInt 0) (bz ((lstB pre).2.2 = true)) (lstB pre).2.1 N = .inr (bz (okG pre ∧ ansP an gv size), N) := by
    constructor
    · unfold HX20_gather_34
      exact ⟨fun _ => ⟨fun _ => trivial, fun _ => ⟨fun _ => trivial, fun _ => ⟨a1, trivial⟩⟩⟩, fun z => absurd rfl z⟩
    · unfold GX20_gather_34 GX20_gather_379 GX20_gather_380
      rw [fi_pos (show Int32.ofInt 0 = 0 from rfl), propext (bz_b _), propext c0]
      extract_lets r1 r2 r3
      have q1 : r1 = (anA an gv size, N) := a2
      have q2 : r2 = (bz (inR (anA an gv size) 8), N) := by show GX19_has x r1.1 _ r1.2 = _; rw [q1]; exact t1
      have q3 : r3 = (bz (inR (an + Int64.ofInt 2) 2), N) := by show GX19_has x (r2.2.2.1 75 q 0 + _) _ r2.2 = _; rw [q2]; dsimp only; rw [v3]; exact t2
      rw [q2, q3]
      dsimp only
      rw [fi_bz, fi_bz]
      unfold okG ansP
      rw [e0]
      generalize lstB pre = L at *
      by_cases k1 : L.2.2 = false
      · rw [fi_pos k1, bz_f (fun z => by rw [k1] at z; exact absurd z.1.2.1 (by decide))]
      · rw [fi_neg k1]
        have k1' : L.2.2 = true := by
          cases hh : L.2.2 with
          | true => rfl
          | false => exact absurd hh k1
        by_cases k2 : 0 < ul L.2.1
        · rw [fi_neg (fun z => z k2)]
          by_cases k3 : inR (anA an gv size) 8
          · rw [fi_pos k3]
            by_cases k4 : inR (an + Int64.ofInt 2) 2
            · rw [fi_pos k4, bz_t ⟨⟨hf, k1', k2⟩, k3, k4⟩]
            · rw [fi_neg k4, bz_f (fun z => k4 z.2.2)]
          · rw [fi_neg k3, bz_f (fun z => k3 z.2.1)]
        · rw [fi_pos k2, bz_f (fun z => k2 z.1.2.2)]
  show FX20_gather_34 fN (FX20_gather_L34 fN J) q x rq k (nI pre.length) (Int32.ofInt 0) (bz ((lstB pre).2.2 = true)) (lstB pre).2.1 N = _
  rw [(gX20_gather_34 (FX20_gather_L34 fN J) q x rq k (nI pre.length) (Int32.ofInt 0) (bz ((lstB pre).2.2 = true)) (lstB pre).2.1 N R'.1 nq' nx' nr' H.1).1, H.2]
  rfl
theorem gC_L (V : VQc q x r rq M size bl an gv) : ∀ m pre k J M' la, pre.length + m = size → k < 65536 → m + 1 < J → Frm (PRq rq M) M M' → Gc rq M' (nuC x M) pre → (pre ≠ [] → (pre.getD 0 (0, 0, false)).2.2 = false ∧ 16 ≤ ul (pre.getD 0 (0, 0, false)).2.1) →
    ∃ N, Frm (PRq rq M) M N ∧ FX20_gather_L34 fN J q x rq (nI k) (nI pre.length) (Int32.ofInt 1) (bz ((lstB pre).2.2 = true)) la M' = some (bz (∃ l, gthL (nuC x M) size bl m k (lstB pre).2.2 = some l ∧ okG (pre ++ l) ∧ ansP an gv size), N) ∧
      (∀ l, gthL (nuC x M) size bl m k (lstB pre).2.2 = some l → okG (pre ++ l) → Gc rq N (nuC x M) (pre ++ l)) ∧ N.1 80 rq 0 = M'.1 80 rq 0 := by
  have hs := V.2.2.2.2.2.2.2.2.2.2.2.2
  have p32 : (2 : Nat) ^ 32 = 4294967296 := by decide
  intro m
  induction m with
  | zero =>
    intro pre k J M' la hpm hk hJ h g hf
    obtain ⟨J, rfl⟩ : ∃ y, J = y + 1 := ⟨J - 1, by omega⟩
    have V' := vq_f h V
    obtain ⟨s1, N, s2, s3, s4⟩ := gC_step (la := la) h V g (by omega) hk
    rw [fi_neg (fun z => by omega)] at s4
    refine ⟨M', h, ?_, fun l z => (by cases z), rfl⟩
    show FX20_gather_34 fN (FX20_gather_L34 fN J) q x rq (nI k) (nI pre.length) (Int32.ofInt 1) (bz ((lstB pre).2.2 = true)) la M' = _
    rw [(gX20_gather_34 (FX20_gather_L34 fN J) q x rq (nI k) (nI pre.length) (Int32.ofInt 1) (bz ((lstB pre).2.2 = true)) la M' V'.1.1 V'.2.2.1 V'.2.2.2.1 V'.2.2.2.2.2.1 s1).1, s4, bz_f (fun z => by obtain ⟨l, z, _⟩ := z; cases z)]
    rfl
  | succ m ih =>
    intro pre k J M' la hpm hk hJ h g hf
    obtain ⟨J, rfl⟩ : ∃ y, J = y + 1 := ⟨J - 1, by omega⟩
    have V' := vq_f h V
    obtain ⟨s1, N, s2, s3, s4⟩ := gC_step (la := la) h V g (by omega) hk
    have G0 := (gX20_gather_34 (FX20_gather_L34 fN J) q x rq (nI k) (nI pre.length) (Int32.ofInt 1) (bz ((lstB pre).2.2 = true)) la M' V'.1.1 V'.2.2.1 V'.2.2.2.1 V'.2.2.2.2.2.1 s1).1
    rw [s4] at G0
    have none_ : ∀ (o : Option (List Blk)), (∀ l, o = some l → ¬ okG (pre ++ l)) → G0 = G0 → (fi (pre.length < size ∧ k < size ∧ inR (gB bl k) 16) (fi (gOk (nuC x M) bl k (lstB pre).2.2 ∧ fst16 pre (gBk (nuC x M) bl k)) (Sum.inl (q, x, rq, nI (ul (nuC x M (gB bl k + Int64.ofInt 14) 2)), nI (pre.length + 1), bz (ib (gMk (nuC x M) bl k) 0 = true), bz ((gBk (nuC x M) bl k).2.2 = true), (gBk (nuC x M) bl k).2.1, N)) (Sum.inr (Int32.ofInt 0, M'))) (Sum.inr (Int32.ofInt 0, M'))) = (Sum.inr (Int32.ofInt 0, M') : (Nat × Nat × Nat × Int32 × Int32 × Int32 × Int32 × Int64 × FM) ⊕ (Int32 × FM)) →
        ∃ N, Frm (PRq rq M) M N ∧ FX20_gather_34 fN (FX20_gather_L34 fN J) q x rq (nI k) (nI pre.length) (Int32.ofInt 1) (bz ((lstB pre).2.2 = true)) la M' = some (bz (∃ l, o = some l ∧ okG (pre ++ l) ∧ ansP an gv size), N) ∧ (∀ l, o = some l → okG (pre ++ l) → Gc rq N (nuC x M) (pre ++ l)) ∧ N.1 80 rq 0 = M'.1 80 rq 0 := fun o ho _ e => by
      rw [e] at G0
      refine ⟨M', h, G0.trans ?_, fun l z1 z2 => absurd z2 (ho l z1), rfl⟩
      rw [bz_f (fun z => by obtain ⟨l, z1, z2, _⟩ := z; exact ho l z1 z2)]
      rfl
    show ∃ N, Frm (PRq rq M) M N ∧ FX20_gather_34 fN (FX20_gather_L34 fN J) q x rq (nI k) (nI pre.length) (Int32.ofInt 1) (bz ((lstB pre).2.2 = true)) la M' = _ ∧ _
    by_cases h1 : k < size ∧ inR (gB bl k) 16
    · have hA : pre.length < size ∧ k < size ∧ inR (gB bl k) 16 := ⟨by omega, h1⟩
      by_cases h2 : gOk (nuC x M) bl k (lstB pre).2.2
      · by_cases h3 : fst16 pre (gBk (nuC x M) bl k)
        · obtain ⟨g5, g80⟩ := s3 ⟨h2, h3⟩ hA
          rw [fi_pos hA, fi_pos (show gOk (nuC x M) bl k (lstB pre).2.2 ∧ fst16 pre (gBk (nuC x M) bl k) from ⟨h2, h3⟩)] at G0
          unfold gthL
          rw [fi_pos h1, fi_pos h2]
          have lb4 : ul (gBk (nuC x M) bl k).2.1 < 2 ^ 32 := nuC_l (s := 4) V (gB_in h1.2 8 4 (by decide)) (by decide)
          have k2 : ul (nuC x M (gB bl k + Int64.ofInt 14) 2) < 65536 := nuC_l (s := 2) V (gB_in h1.2 14 2 (by decide)) (by decide)
          have hf' : (pre ++ [gBk (nuC x M) bl k]) ≠ [] → ((pre ++ [gBk (nuC x M) bl k]).getD 0 (0, 0, false)).2.2 = false ∧ 16 ≤ ul ((pre ++ [gBk (nuC x M) bl k]).getD 0 (0, 0, false)).2.1 := fun _ => by
            by_cases hp : pre = []
            · rw [hp]
              exact h3 hp
            · rw [getD_l (List.length_pos_iff.mpr hp)]
              exact hf hp
          have lp : (pre ++ [gBk (nuC x M) bl k]).length = pre.length + 1 := List.length_append
          by_cases h4 : ib (gMk (nuC x M) bl k) 0 = true
          · rw [bz_t h4] at G0
            rw [fi_pos h4]
            obtain ⟨N', n1, n2, n3, n4⟩ := ih (pre ++ [gBk (nuC x M) bl k]) (ul (nuC x M (gB bl k + Int64.ofInt 14) 2)) J N (gBk (nuC x M) bl k).2.1 (by omega) k2 (by omega) s2 g5 hf'
            rw [lstB_a, lp] at n2
            rw [lstB_a] at n3
            have ep : (gBk (nuC x M) bl k).2.2 = ib (gMk (nuC x M) bl k) 1 := rfl
            refine ⟨N', n1, G0.trans (n2.trans ?_), fun l z1 z2 => ?_, n4.trans g80⟩
            · refine congrArg (fun z => some (z, N')) (bz_c ?_)
              rw [ep]
              constructor
              · intro ⟨l, q1, q2, q3⟩
                refine ⟨gBk (nuC x M) bl k :: l, ?_, by rw [List.append_assoc] at q2; exact q2, q3⟩
                rw [q1]
                rfl
              · intro ⟨l, q1, q2, q3⟩
                cases hg : gthL (nuC x M) size bl m (ul (nuC x M (gB bl k + Int64.ofInt 14) 2)) (ib (gMk (nuC x M) bl k) 1) with
                | none => rw [hg] at q1; cases q1
                | some l' =>
                  rw [hg] at q1
                  cases q1
                  exact ⟨l', rfl, by rw [List.append_assoc]; exact q2, q3⟩
            · rw [ep] at n3
              cases hg : gthL (nuC x M) size bl m (ul (nuC x M (gB bl k + Int64.ofInt 14) 2)) (ib (gMk (nuC x M) bl k) 1) with
              | none => rw [hg] at z1; cases z1
              | some l' =>
                rw [hg] at z1
                cases z1
                have y := n3 l' hg
                rw [List.append_assoc] at y
                exact y z2
          · rw [bz_f h4] at G0
            rw [fi_neg h4]
            obtain ⟨J, rfl⟩ : ∃ y, J = y + 1 := ⟨J - 1, by omega⟩
            have en := gC_end (k := nI (ul (nuC x M (gB bl k + Int64.ofInt 14) 2))) (J := J) s2 V (by intro z; have := congrArg List.length z; rw [lp] at this; cases this) (hf' (by intro z; have := congrArg List.length z; rw [lp] at this; cases this)) (by rw [lstB_a]; exact lb4)
            rw [lstB_a, lp] at en
            refine ⟨N, s2, G0.trans (en.trans (congrArg (fun z => some (z, N)) (bz_c ?_))), fun l z1 z2 => by cases z1; exact g5, g80⟩
            exact ⟨fun z => ⟨_, rfl, z.1, z.2⟩, fun ⟨l, q1, q2, q3⟩ => by cases q1; exact ⟨q2, q3⟩⟩
        · have hp : pre = [] := Classical.byContradiction (fun z => h3 (fun y => absurd y z))
          refine none_ _ (fun l z1 z2 => h3 (fun _ => ?_)) rfl (by rw [fi_pos hA, fi_neg (fun z => h3 z.2)])
          rw [hp] at z2
          have z2 : okG l := z2
          unfold gthL at z1
          rw [fi_pos h1, fi_pos h2] at z1
          have z3 : l.getD 0 (0, 0, true) = gBk (nuC x M) bl k := by
            by_cases h4 : ib (gMk (nuC x M) bl k) 0 = true
            · rw [fi_pos h4] at z1
              cases hg : gthL (nuC x M) size bl m (ul (nuC x M (gB bl k + Int64.ofInt 14) 2)) (ib (gMk (nuC x M) bl k) 1) with
              | none => rw [hg] at z1; cases z1
              | some l' => rw [hg] at z1; cases z1; rfl
            · rw [fi_neg h4] at z1
              cases z1
              rfl
          have z4 := z2.1
          rw [z3] at z4
          exact z4
      · refine none_ _ (fun l z1 => ?_) rfl (by rw [fi_pos hA, fi_neg (fun z => h2 z.1)])
        unfold gthL at z1
        rw [fi_pos h1, fi_neg h2] at z1
        cases z1
    · refine none_ _ (fun l z1 => ?_) rfl (by rw [fi_neg (fun z => h1 z.2)])
      unfold gthL at z1
      rw [fi_neg h1] at z1
      cases z1
theorem X20_gather (V : VQc q x r rq M size bl an gv) {k : Nat} (hk : k < 65536) :
    ∃ N, Frm (PRq rq M) M N ∧ HX20_gather q x (nI k) rq M ∧ GX20_gather q x (nI k) rq M = (bz (∃ l, gthL (nuC x M) size bl size k false = some l ∧ okG l ∧ ansP an gv size), N) ∧
      (∀ l, gthL (nuC x M) size bl size k false = some l → okG l → Gc rq N (nuC x M) l) ∧ N.1 80 rq 0 = nI k := by
  have V0 := V
  obtain ⟨R, h202, nq, nx, hr, nr, S, v1, v2, v3, v4, v5, v6⟩ := V
  obtain ⟨px1, px2⟩ := pst_x R.1 R.2.1 nr S
  obtain ⟨N1, c1, c2, c3⟩ := X22_clear (M.2.2 78 rq 0) M
  have f1 : Frm (PRq rq M) M N1 := frm_w c2 (fun f b z => pst_78 z)
  have e79 : N1.2.2 79 rq 0 = M.2.2 79 rq 0 := by rw [f1.1]
  obtain ⟨N2, d1, d2, d3⟩ := X22_clear (M.2.2 79 rq 0) N1
  have f2 : Frm (PRq rq M) M N2 := frm_t f1 (frm_w d2 (fun f b z => by
    have : PSt (M.2.2 79 rq 0) M f b := by unfold PSt at *; rw [f1.1] at z; exact z
    exact pst_79 this))
  have c3' : StrV (M.2.2 78 rq 0) N2 [] := strV_o d2 (fun f b z y => px2 f b (by unfold PSt at *; rw [f1.1] at z; exact z) (by unfold PSt at *; rw [f1.1] at y; exact y)) c3
  have f3 : Frm (PRq rq M) M (fm_sI N2 80 rq 0 (nI k)) := frm_I f2 (Or.inl ⟨rfl, by decide, by decide⟩)
  have fo : Frm (fun f b => f = 80 ∧ b = rq) N2 (fm_sI N2 80 rq 0 (nI k)) := frm_I frm_r ⟨rfl, rfl⟩
  have hp : ∀ s f b, (f = 80 ∧ b = rq) → ¬ PSt s N2 f b := fun s f b z y => by rcases pst_f y with u | u <;> omega
  have g0 : Gc rq (fm_sI N2 80 rq 0 (nI k)) (nuC x M) [] := by
    refine ⟨?_, ?_, fun z => absurd rfl z⟩
    · rw [fo.1, f2.1]
      exact strV_o fo (hp _) c3'
    · rw [fo.1, f2.1]
      exact strV_o fo (hp _) d3
  have e80 : (fm_sI N2 80 rq 0 (nI k)).1 80 rq 0 = nI k := if_pos ⟨rfl, rfl, rfl⟩
  obtain ⟨N, n1, n2, n3, n4⟩ := gC_L V0 size [] k fN (fm_sI N2 80 rq 0 (nI k)) (Int64.ofInt 0) (Nat.zero_add _) hk (by unfold fN; omega) f3 g0 (fun z => absurd rfl z)
  have e : FX20_gather fN q x (nI k) rq M = some (bz (∃ l, gthL (nuC x M) size bl size k false = some l ∧ okG l ∧ ansP an gv size), N) := by
    show FX20_gather_0 fN (FX20_gather_L34 fN fN) q x (nI k) rq M = _
    rw [(gX20_gather_0 (FX20_gather_L34 fN fN) q x (nI k) rq M R.1 nr).1]
    unfold GX20_gather_0
    dsimp only
    rw [c1, e79, d1]
    have b0 : bz ((lstB []).2.2 = true) = Int32.ofInt 0 := bz_f (by decide)
    rw [b0] at n2
    exact n2
  obtain ⟨o1, o2⟩ := op_of (d := ((0 : Int32), M)) e (P := OkZ M) ⟨prq_ty n1 nr R.1, frm_ext n1, bz_z _⟩
  exact ⟨N, n1, o1, o2, n3, n4.trans e80⟩
end Ge
