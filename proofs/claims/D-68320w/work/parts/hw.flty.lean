/-! floats: the component's unit reckons, goes between formats, fuses -/
set_option maxRecDepth 100000
/-- bits and flags of a reckoning written -/
def WrC (u : Nat) (c : Nat → Nat) (rg t : Nat) (w : Int32) (s : Fs) (R : Nat × Nat) (M N : FM) : Prop := FrU u c rg M N ∧ VFc u c rg N (sPut (pt w 7 5) (bx t (lN R.1)) (sFl R.2 s))
/-- what a register holds, in a format -/
noncomputable def rdU (t r : Nat) (s : Fs) : UU := upk t (bO t (s.1 r))
section Rw
variable {u rg k md t : Nat} {c : Nat → Nat} {M N K : FM} {s : Fs} {w : Int32}
theorem md_is (T : Ty M) (h : md ≤ 4) : fm_is M 1 1 (1 + md) = true := by
  refine ty_C_is ?_
  rcases (show md = 0 ∨ md = 1 ∨ md = 2 ∨ md = 3 ∨ md = 4 by omega) with q | q | q | q | q <;> subst q
  · exact T.1.2.2.2.2.2.1 (1, 1) (by decide)
  · exact T.1.2.2.2.2.2.1 (2, 1) (by decide)
  · exact T.1.2.2.2.2.2.1 (3, 1) (by decide)
  · exact T.1.2.2.2.2.2.1 (4, 1) (by decide)
  · exact T.1.2.2.2.2.2.1 (5, 1) (by decide)
theorem rdU_g (ht : t ≤ 1) (r : Nat) (s : Fs) : gdU (rdU t r s) := upk_g ht _
/-- taken apart: one, and what it shows -/
theorem take1 (o : FlU u c rg M) (v : VFc u c rg M s) (ht : t ≤ 1) {r : Nat} (hr : r < 32) (hk : k < 4) : HX59_take u (nI r) (c (10 + t)) (c k) M ∧ Cf c (fun j => j = k) 0 M (GX59_take u (nI r) (c (10 + t)) (c k) M) ∧
    FlU u c rg (GX59_take u (nI r) (c (10 + t)) (c k) M) ∧ VFc u c rg (GX59_take u (nI r) (c (10 + t)) (c k) M) s ∧ Tk c k (GX59_take u (nI r) (c (10 + t)) (c k) M) (rdU t r s) ∧ FrU u c rg M (GX59_take u (nI r) (c (10 + t)) (c k) M) := by
  obtain ⟨th, tc, tv, tn, tb⟩ := X59_take (S := fun j => j = k) o v ht hr hk rfl
  have v1 := vFc_c o v tc
  rw [sFl_0] at v1
  exact ⟨th, tc, flU_c o tc, v1, ⟨tv, fun y => tn (by have : (upk t (bO t (s.1 r))).1 = 1 := y; omega)⟩, frU_c tc.1⟩
theorem X59_r105 (o : FlU u c rg K) {f1 : Nat} (v : VFc u c rg K (sFl f1 s)) (hf : f1 < 4294967296) (ht : t ≤ 1) (hm : md ≤ 4) {R : Rt} {Q : Nat × Nat} (hR : Ou c 3 md K R) (hQ : ((finF t md R).1, f1 ||| (finF t md R).2) = Q) (w : Int32) :
    ∃ N, (HX59_reckon_105 u w (c (10 + t)) (1 + md) K ∧ GX59_reckon_105 u w (c (10 + t)) (1 + md) K = (Int32.ofInt 0, N)) ∧ WrC u c rg t w s Q K N := by
  obtain ⟨P, N, ⟨h1, g1⟩, ⟨h2, g2⟩, fr, vN⟩ := X59_tail o v hf ht hm (show 3 < 4 by decide) hR w
  obtain ⟨e5, e6, e7, e8, e4⟩ := e105 o.1
  unfold HX59_reckon_105 GX59_reckon_105
  dsimp only
  rw [e8, e4, g1]
  dsimp only
  rw [g2, ← hQ]
  exact ⟨N, ⟨⟨h1, h2, trivial⟩, rfl⟩, fr, vN⟩
theorem c4 {n : Nat} (h : n < 32) : (Int32.ofNat 4 ≤ nI n) = ¬ n < 4 := propext (by
  have := ni_ge (z := 4) (k := n) (by omega)
  rw [show Int32.ofNat 4 = Int32.ofInt 4 from rfl, this]
  omega)
theorem X59_reckon (o : FlU u c rg M) (v : VFc u c rg M s) (ht : t ≤ 1) (hm : md ≤ 4) (hk : pt w 27 5 < 4 ∨ pt w 27 5 = 11) :
    ∃ N, (HX59_reckon u w (c (10 + t)) (1 + md) M ∧ GX59_reckon u w (c (10 + t)) (1 + md) M = (Int32.ofInt 0, N)) ∧
      WrC u c rg t w s (if pt w 27 5 < 4 then opB2 t md (rdU t (pt w 15 5) s).1 (rdU t (pt w 20 5) s).1 (opR (pt w 27 5) md (rdU t (pt w 15 5) s) (rdU t (pt w 20 5) s)) else opB1 t md (rdU t (pt w 15 5) s).1 (rootR (rdU t (pt w 15 5) s))) M N := by
  obtain ⟨e5, e6, e7, e8, e4⟩ := e105 o.1
  have gX := rdU_g ht (pt w 15 5) s
  have gY := rdU_g ht (pt w 20 5) s
  have hw := pt_lt w 27 5
  obtain ⟨h1, c1, o1, v1, x1, f1⟩ := take1 o v ht (pt_lt w 15 5) (show 0 < 4 by decide)
  unfold HX59_reckon HX59_reckon_0 GX59_reckon GX59_reckon_0
  dsimp only
  rw [p27]
  dsimp only
  rw [p15]
  dsimp only
  rw [e5]
  generalize hM1 : GX59_take u (nI (pt w 15 5)) (c (10 + t)) (c 0) M = M1 at *
  obtain ⟨e5, e6, e7, e8, e4⟩ := e105 o1.1
  rw [o1.2.2.2.2.2.2.1.1, c4 hw, p20]
  dsimp only
  rw [e5, e6, e4, e8]
  by_cases q : pt w 27 5 < 4
  · rw [if_pos q, fi_neg (fun y => y q)]
    obtain ⟨h2, c2, o2, v2, y2, f2⟩ := take1 o1 v1 ht (pt_lt w 20 5) (show 1 < 4 by decide)
    have x2 := tk_k o1.1 c2 (show 0 < 4 by decide) (by decide) x1
    generalize hM2 : GX59_take u (nI (pt w 20 5)) (c (10 + t)) (c 1) M1 = M2 at *
    obtain ⟨e5, e6, e7, e8, e4⟩ := e105 o2.1
    obtain ⟨M3, ⟨h3, g3⟩, c3, r3⟩ := X65_runk (S := fun _ => True) (md := md) o2 q (show 0 < 3 by decide) (show 1 < 3 by decide) (by decide) trivial trivial trivial x2 y2 gX gY
    have o3 := flU_c o2 c3
    have v3 := vFc_c o2 v2 c3
    have l1 := nnR_le (a := (rdU t (pt w 15 5) s).1) (b := (rdU t (pt w 20 5) s).1) (opR_le (pt w 27 5) md (rdU t (pt w 15 5) s) (rdU t (pt w 20 5) s))
    obtain ⟨N, ⟨h4, g4⟩, f4, v4⟩ := X59_r105 o3 v3 (by omega) ht hm r3 (op2_e t md _ _ _) w
    refine ⟨N, ⟨⟨h1, fun y => absurd q y, fun _ => ⟨h2, in_nI o2.2.2.2.2.2.2.1.1 q (by decide), ?_, ?_⟩⟩, ?_⟩, frU_t f1 (frU_t f2 (frU_t (frU_c c3.1) f4)), v4⟩
    · rw [o_cl (by omega), e5, e6, e4, e8]
      exact h3
    · rw [o_cl (by omega), e5, e6, e4, e8, g3]
      exact h4
    · rw [o_cl (by omega), e5, e6, e4, e8, g3]
      exact g4
  · rw [if_neg q, fi_pos q]
    obtain ⟨M3, ⟨h3, g3⟩, c3, r3⟩ := X65_runr (S := fun _ => True) (md := md) o1 (show 0 < 3 by decide) trivial trivial x1 gX
    have o3 := flU_c o1 c3
    have v3 := vFc_c o1 v1 c3
    have l1 := nnR_le (a := (rdU t (pt w 15 5) s).1) (b := (rdU t (pt w 15 5) s).1) (rootR_le (rdU t (pt w 15 5) s))
    obtain ⟨N, ⟨h4, g4⟩, f4, v4⟩ := X59_r105 o3 v3 (by omega) ht hm r3 (op1_e t md _ _) w
    refine ⟨N, ⟨⟨h1, fun _ => ⟨h3, ?_⟩, fun y => absurd q y⟩, ?_⟩, frU_t f1 (frU_t (frU_c c3.1) f4), v4⟩
    · rw [g3]
      exact h4
    · rw [g3]
      exact g4
/-- from the other format -/
theorem X59_conv8 (o : FlU u c rg M) (v : VFc u c rg M s) (ht : t ≤ 1) (hm : md ≤ 4) (x : Int64) (hk : pt w 27 5 = 8) :
    ∃ N, (HX59_convert u w (c (10 + t)) (1 + md) x M ∧ GX59_convert u w (c (10 + t)) (1 + md) x M = ((if pt w 20 5 = 1 - t then Int32.ofInt 0 else Int32.ofInt (-1)), N)) ∧
      (if pt w 20 5 = 1 - t then WrC u c rg t w s (opB1 t md (rdU (1 - t) (pt w 15 5) s).1 (othR (rdU (1 - t) (pt w 15 5) s))) M N else N = M) := by
  obtain ⟨e5, e6, e7, e8, e4⟩ := e105 o.1
  have hw := pt_lt w 20 5
  have c1 : (Int32.ofInt 1 < nI (pt w 20 5)) = ¬ pt w 20 5 ≤ 1 := propext (by
    have := ni_ge (z := 2) (k := pt w 20 5) (by omega)
    have := ni_lt (z := 1) (k := pt w 20 5) (by omega)
    have h2 : Int32.ofInt 1 < Int32.ofInt ((pt w 20 5 : Nat) : Int) ↔ (1 : Int) < (pt w 20 5 : Nat) := iz_lt (by omega)
    rw [← iz_nI] at h2
    rw [h2]
    omega)
  unfold HX59_convert HX59_convert_0 GX59_convert GX59_convert_0 GX59_convert_69
  dsimp only
  rw [p20]
  dsimp only
  rw [p27, hk, p15]
  dsimp only
  rw [fi_pos (show nI 8 = Int32.ofInt 8 from rfl), c1]
  by_cases q : pt w 20 5 ≤ 1
  · rw [fi_neg (fun y => y q)]
    have fm : M.2.2 3 (M.2.2 98 u 0) (pt w 20 5) = c (10 + pt w 20 5) := (o.1.2.2.2.2.1 _ (by omega)).1
    rw [o_cl (by omega), fm]
    have hb : (c (10 + pt w 20 5) = c (10 + t)) = ¬ pt w 20 5 = 1 - t := propext ⟨fun y z => o.1.2.2.1 (10 + pt w 20 5) (by omega) (10 + t) (by omega) (by omega) y, fun y => by rw [show pt w 20 5 = t by omega]⟩
    rw [hb]
    by_cases q2 : pt w 20 5 = 1 - t
    · rw [fi_neg (fun y => y q2), if_pos q2, q2]
      have ht' : 1 - t ≤ 1 := by omega
      have gX := rdU_g ht' (pt w 15 5) s
      obtain ⟨h1, c1, o1, v1, x1, f1⟩ := take1 o v ht' (pt_lt w 15 5) (show 0 < 4 by decide)
      rw [e5]
      generalize hM1 : GX59_take u (nI (pt w 15 5)) (c (10 + (1 - t))) (c 0) M = M1 at *
      obtain ⟨e5, e6, e7, e8, e4⟩ := e105 o1.1
      obtain ⟨M3, ⟨h3, g3⟩, c3, r3⟩ := X65_runs (S := fun _ => True) (md := md) o1 (show 0 < 3 by decide) trivial x1 gX
      have o3 := flU_c o1 c3
      have v3 := vFc_c o1 v1 c3
      have l1 := nnR_le (a := (rdU (1 - t) (pt w 15 5) s).1) (b := (rdU (1 - t) (pt w 15 5) s).1) (R := othR (rdU (1 - t) (pt w 15 5) s)) (Nat.zero_le _)
      obtain ⟨N, ⟨h4, g4⟩, f4, v4⟩ := X59_r105 o3 v3 (by omega) ht hm r3 (op1_e t md _ _) w
      rw [e5, e4, e8, g3]
      refine ⟨N, ⟨⟨fun _ => ⟨fun y => absurd (by omega) y, fun _ => ⟨in_nI o.2.2.2.1 (by omega) (by decide), fun y => absurd rfl y, fun _ => ⟨in_nI o.2.2.2.1 (by omega) (by decide), h1, h3, h4⟩⟩⟩, fun y => absurd rfl y⟩, g4⟩, ?_⟩
      rw [if_pos rfl]
      exact ⟨frU_t f1 (frU_t (frU_c c3.1) f4), v4⟩
    · rw [fi_pos q2, if_neg q2]
      exact ⟨M, ⟨⟨fun _ => ⟨fun y => absurd q y, fun _ => ⟨in_nI o.2.2.2.1 (by omega) (by decide), fun _ => trivial, fun y => absurd q2 y⟩⟩, fun y => absurd rfl y⟩, rfl⟩, by rw [if_neg q2]⟩
  · have q2 : ¬ pt w 20 5 = 1 - t := by omega
    rw [fi_pos q, if_neg q2]
    exact ⟨M, ⟨⟨fun _ => ⟨fun _ => trivial, fun y => absurd q y⟩, fun y => absurd rfl y⟩, rfl⟩, by rw [if_neg q2]⟩
end Rw
