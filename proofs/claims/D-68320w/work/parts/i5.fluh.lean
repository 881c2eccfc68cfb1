/-! floats: the component's unit runs: what is asked of an instruction -/
set_option maxRecDepth 100000
/-- an instruction for numbers: none, or flags and bits for a register or a value -/
noncomputable def fRun (w : Int32) (v : Int64) (s : Fs) : Fo :=
  if 1 < pt w 25 2 then none
  else if pt w 0 7 = 67 ∨ pt w 0 7 = 71 ∨ pt w 0 7 = 75 ∨ pt w 0 7 = 79 then
    (if mdO s.2.2.1 (pt w 12 3) < 5 then some ((fusR (pt w 25 2) (mdO s.2.2.1 (pt w 12 3)) (rdU (pt w 25 2) (pt w 15 5) s) (rdU (pt w 25 2) (pt w 20 5) s) (rdU (pt w 25 2) (pt w 27 5) s) (decide (71 < pt w 0 7)) (decide (pt w 0 7 = 71 ∨ pt w 0 7 = 79))).2,
      .inl (lN (fusR (pt w 25 2) (mdO s.2.2.1 (pt w 12 3)) (rdU (pt w 25 2) (pt w 15 5) s) (rdU (pt w 25 2) (pt w 20 5) s) (rdU (pt w 25 2) (pt w 27 5) s) (decide (71 < pt w 0 7)) (decide (pt w 0 7 = 71 ∨ pt w 0 7 = 79))).1)) else none)
  else if pt w 0 7 = 83 then
    (if pt w 27 5 = 4 then (if pt w 12 3 < 3 then some (0, .inl (lN (pk (pt w 25 2) (sgJ (pt w 25 2) (pt w 12 3) (bO (pt w 25 2) (s.1 (pt w 15 5))) (bO (pt w 25 2) (s.1 (pt w 20 5)))) 0 (ul (bO (pt w 25 2) (s.1 (pt w 15 5))) % 2 ^ fS (pt w 25 2))))) else none)
    else if pt w 27 5 = 5 then (if pt w 12 3 < 2 then some (if (rdU (pt w 25 2) (pt w 15 5) s).1 = 4 ∨ (rdU (pt w 25 2) (pt w 20 5) s).1 = 4 then 16 else 0, .inl (lN (ul (chB (pt w 25 2) (pt w 12 3) (bO (pt w 25 2) (s.1 (pt w 15 5))) (bO (pt w 25 2) (s.1 (pt w 20 5))) (rdU (pt w 25 2) (pt w 15 5) s) (rdU (pt w 25 2) (pt w 20 5) s))))) else none)
    else if pt w 27 5 = 20 then (if pt w 12 3 < 3 then some ((cmV (pt w 12 3) (rdU (pt w 25 2) (pt w 15 5) s) (rdU (pt w 25 2) (pt w 20 5) s)).2, .inr (cmV (pt w 12 3) (rdU (pt w 25 2) (pt w 15 5) s) (rdU (pt w 25 2) (pt w 20 5) s)).1) else none)
    else if pt w 27 5 = 28 then (if pt w 20 5 = 0 then (if pt w 12 3 < 2 then some (0, .inr (lkV (pt w 25 2) (pt w 12 3) (pt w 15 5) s)) else none) else none)
    else if pt w 27 5 = 30 then (if pt w 20 5 = 0 ∧ pt w 12 3 = 0 then some (0, .inl (if pt w 25 2 = 1 then v else v &&& Int64.ofInt 4294967295)) else none)
    else if mdO s.2.2.1 (pt w 12 3) < 5 then
      (if pt w 27 5 < 4 then some ((opB2 (pt w 25 2) (mdO s.2.2.1 (pt w 12 3)) (rdU (pt w 25 2) (pt w 15 5) s).1 (rdU (pt w 25 2) (pt w 20 5) s).1 (opR (pt w 27 5) (mdO s.2.2.1 (pt w 12 3)) (rdU (pt w 25 2) (pt w 15 5) s) (rdU (pt w 25 2) (pt w 20 5) s))).2,
        .inl (lN (opB2 (pt w 25 2) (mdO s.2.2.1 (pt w 12 3)) (rdU (pt w 25 2) (pt w 15 5) s).1 (rdU (pt w 25 2) (pt w 20 5) s).1 (opR (pt w 27 5) (mdO s.2.2.1 (pt w 12 3)) (rdU (pt w 25 2) (pt w 15 5) s) (rdU (pt w 25 2) (pt w 20 5) s))).1))
      else if pt w 27 5 = 11 then (if pt w 20 5 = 0 then some ((opB1 (pt w 25 2) (mdO s.2.2.1 (pt w 12 3)) (rdU (pt w 25 2) (pt w 15 5) s).1 (rootR (rdU (pt w 25 2) (pt w 15 5) s))).2, .inl (lN (opB1 (pt w 25 2) (mdO s.2.2.1 (pt w 12 3)) (rdU (pt w 25 2) (pt w 15 5) s).1 (rootR (rdU (pt w 25 2) (pt w 15 5) s))).1)) else none)
      else if pt w 27 5 = 8 then (if pt w 20 5 = 1 - pt w 25 2 then some ((opB1 (pt w 25 2) (mdO s.2.2.1 (pt w 12 3)) (rdU (1 - pt w 25 2) (pt w 15 5) s).1 (othR (rdU (1 - pt w 25 2) (pt w 15 5) s))).2, .inl (lN (opB1 (pt w 25 2) (mdO s.2.2.1 (pt w 12 3)) (rdU (1 - pt w 25 2) (pt w 15 5) s).1 (othR (rdU (1 - pt w 25 2) (pt w 15 5) s))).1)) else none)
      else if pt w 27 5 = 24 then (if pt w 20 5 < 4 then some ((toI (pt w 20 5) (mdO s.2.2.1 (pt w 12 3)) (rdU (pt w 25 2) (pt w 15 5) s)).2, .inr (toI (pt w 20 5) (mdO s.2.2.1 (pt w 12 3)) (rdU (pt w 25 2) (pt w 15 5) s)).1) else none)
      else if pt w 27 5 = 26 then (if pt w 20 5 < 4 then some ((finF (pt w 25 2) (mdO s.2.2.1 (pt w 12 3)) (frI (pt w 20 5) v)).2, .inl (lN (finF (pt w 25 2) (mdO s.2.2.1 (pt w 12 3)) (frI (pt w 20 5) v)).1)) else none)
      else none)
    else none)
  else none
def PoC (u : Nat) (c : Nat → Nat) (rg t d : Nat) (s : Fs) (o : Fo) (H : Prop) (G : Int32 × FM) (M : FM) : Prop := ∃ N, (H ∧ G = ((fAp t d o s).1, N)) ∧ FrU u c rg M N ∧ VFc u c rg N (fAp t d o s).2
section Ri
variable {u rg b md t d : Nat} {c : Nat → Nat} {M N K : FM} {s : Fs} {w : Int32} {x : Int64} {H H' : Prop} {G G' : Int32 × FM}
theorem po_iw {p : Prop} [Decidable p] {R : Nat × Nat} (h : ∃ N, (H ∧ G = ((if p then Int32.ofInt 0 else Int32.ofInt (-1)), N)) ∧ (if p then WrC u c rg t w s R M N else N = M)) (v : VFc u c rg M s) (T : Ty M) : PoC u c rg t (pt w 7 5) s (if p then some (R.2, .inl (lN R.1)) else none) H G M := by
  obtain ⟨N, a, r⟩ := h
  by_cases q : p
  · rw [if_pos q] at r a ⊢
    exact ⟨N, a, r.1, r.2⟩
  · rw [if_neg q] at r a ⊢
    subst r
    exact ⟨N, a, frU_r T, v⟩
theorem po_w {R : Nat × Nat} (h : ∃ N, (H ∧ G = (Int32.ofInt 0, N)) ∧ WrC u c rg t w s R M N) : PoC u c rg t (pt w 7 5) s (some (R.2, .inl (lN R.1))) H G M := by
  obtain ⟨N, a, r⟩ := h
  exact ⟨N, a, r.1, r.2⟩
theorem po_ig {p : Prop} [Decidable p] {R : Int64 × Nat} (h : ∃ N, (H ∧ G = ((if p then Int32.ofInt 1 else Int32.ofInt (-1)), N)) ∧ (if p then GvC u c rg s R M N else N = M)) (v : VFc u c rg M s) (T : Ty M) : PoC u c rg t (pt w 7 5) s (if p then some (R.2, .inr R.1) else none) H G M := by
  obtain ⟨N, a, r⟩ := h
  by_cases q : p
  · rw [if_pos q] at r a ⊢
    exact ⟨N, a, r.1, r.2⟩
  · rw [if_neg q] at r a ⊢
    subst r
    exact ⟨N, a, frU_r T, v⟩
theorem po_n (h : H ∧ G = (Int32.ofInt (-1), M)) (v : VFc u c rg M s) (T : Ty M) : PoC u c rg t d s none H G M := ⟨M, h, frU_r T, v⟩
theorem po_h {o : Fo} (h : PoC u c rg t d s o H G M) (k : H → H') (e : G' = G) : PoC u c rg t d s o H' G' M := by
  obtain ⟨N, a, r⟩ := h
  exact ⟨N, ⟨k a.1, e.trans a.2⟩, r⟩
theorem pr_e (R : Int32 × FM) : (R.1, R.2) = R := rfl
theorem X59_operate (o : FlU u c rg M) (v : VFc u c rg M s) (hm : s.2.2.1 < 8) (ht : pt w 25 2 ≤ 1) (h83 : pt w 0 7 = 83) :
    PoC u c rg (pt w 25 2) (pt w 7 5) s (fRun w x s) (HX59_operate u w (c (10 + pt w 25 2)) x M) (GX59_operate u w (c (10 + pt w 25 2)) x M) M := by
  have hk := pt_lt w 27 5
  have hb := pt_lt w 20 5
  have hr : pt w 12 3 < 8 := pt_lt w 12 3
  have ck : ∀ l : Nat, l < 32 → (nI (pt w 27 5) = Int32.ofInt (l : Int)) = (pt w 27 5 = l) := fun l hl => propext (by
    have := ni_i (a := pt w 27 5) (b := l) (by omega) (by omega)
    rw [iz_nI l] at this
    exact this)
  have c4 := ck 4 (by decide)
  have c5 := ck 5 (by decide)
  have c20 := ck 20 (by decide)
  have c28 := ck 28 (by decide)
  have c30 := ck 30 (by decide)
  have c11 := ck 11 (by decide)
  have b0 : (nI (pt w 20 5) = 0) = (pt w 20 5 = 0) := propext (ni_i (b := 0) (by omega) (by decide))
  have r0 : (nI (pt w 12 3) = 0) = (pt w 12 3 = 0) := propext (ni_i (b := 0) (by omega) (by decide))
  have T := o.1.1
  unfold fRun
  rw [if_neg (show ¬ 1 < pt w 25 2 by omega), if_neg (show ¬ (pt w 0 7 = 67 ∨ pt w 0 7 = 71 ∨ pt w 0 7 = 75 ∨ pt w 0 7 = 79) by omega), if_pos h83]
  unfold HX59_operate HX59_operate_0 GX59_operate GX59_operate_0 GX59_operate_209 GX59_operate_149 GX59_operate_150 GX59_operate_108
  dsimp only
  rw [p27]
  dsimp only
  rw [p20]
  dsimp only
  rw [p12]
  dsimp only
  rw [show (nI (pt w 27 5) = Int32.ofInt 4) = (pt w 27 5 = 4) from c4, show (nI (pt w 27 5) = Int32.ofInt 5) = (pt w 27 5 = 5) from c5, show (nI (pt w 27 5) = Int32.ofInt 20) = (pt w 27 5 = 20) from c20,
    show (nI (pt w 27 5) = Int32.ofInt 28) = (pt w 27 5 = 28) from c28, show (nI (pt w 27 5) = Int32.ofInt 30) = (pt w 27 5 = 30) from c30, show (nI (pt w 27 5) = Int32.ofInt 11) = (pt w 27 5 = 11) from c11, b0, r0, dbl o ht]
  dsimp only
  by_cases k4 : pt w 27 5 = 4
  · rw [fi_pos k4, if_pos k4]
    exact po_h (po_iw (X59_changeSign o v ht) v T) (fun h => ⟨fun _ => ⟨h, trivial⟩, fun z => absurd k4 z⟩) rfl
  · rw [fi_neg k4, if_neg k4]
    by_cases k5 : pt w 27 5 = 5
    · rw [fi_pos k5, if_pos k5]
      exact po_h (po_iw (X59_choose o v ht) v T) (fun h => ⟨fun z => absurd z k4, fun _ => ⟨fun _ => ⟨h, trivial⟩, fun z => absurd k5 z⟩⟩) rfl
    · rw [fi_neg k5, if_neg k5]
      by_cases k20 : pt w 27 5 = 20
      · rw [fi_pos k20, if_pos k20]
        exact po_h (po_ig (X59_compare o v ht) v T) (fun h => ⟨fun z => absurd z k4, fun _ => ⟨fun z => absurd z k5, fun _ => ⟨fun _ => ⟨h, trivial⟩, fun z => absurd k20 z⟩⟩⟩) rfl
      · rw [fi_neg k20, if_neg k20]
        by_cases k28 : pt w 27 5 = 28
        · rw [fi_pos k28, if_pos k28]
          by_cases y0 : pt w 20 5 = 0
          · rw [fi_pos y0, if_pos y0]
            exact po_h (po_ig (X59_look o v ht) v T) (fun h => ⟨fun z => absurd z k4, fun _ => ⟨fun z => absurd z k5, fun _ => ⟨fun z => absurd z k20, fun _ => ⟨fun _ => ⟨fun _ => ⟨h, trivial⟩, fun z => absurd y0 z⟩, fun z => absurd k28 z⟩⟩⟩⟩) rfl
          · rw [fi_neg y0, if_neg y0]
            exact po_n ⟨⟨fun z => absurd z k4, fun _ => ⟨fun z => absurd z k5, fun _ => ⟨fun z => absurd z k20, fun _ => ⟨fun _ => ⟨fun z => absurd z y0, fun _ => trivial⟩, fun z => absurd k28 z⟩⟩⟩⟩, rfl⟩ v T
        · rw [fi_neg k28, if_neg k28]
          by_cases k30 : pt w 27 5 = 30
          · rw [fi_pos k30, if_pos k30]
            by_cases y0 : pt w 20 5 = 0
            · rw [fi_pos y0]
              by_cases y1 : pt w 12 3 = 0
              · rw [fi_pos y1, fi_bz, if_pos ⟨y0, y1⟩]
                have wr : ∀ b : Int64, b = (if pt w 25 2 = 1 then x else x &&& Int64.ofInt 4294967295) → PoC u c rg (pt w 25 2) (pt w 7 5) s (some (0, .inl (if pt w 25 2 = 1 then x else x &&& Int64.ofInt 4294967295))) (HX59_operate_143 u w (c (10 + pt w 25 2)) b M) (GX59_operate_143 u w (c (10 + pt w 25 2)) b M) M := fun b hb => by
                  obtain ⟨h, N, e, f, r⟩ := X59_write o v ht w b
                  refine ⟨N, ⟨⟨h, trivial⟩, ?_⟩, f, ?_⟩
                  · unfold GX59_operate_143 GX59_operate_150
                    dsimp only
                    rw [e]
                    rfl
                  · rw [← hb]
                    show VFc u c rg N (sPut (pt w 7 5) (bx (pt w 25 2) b) (sFl 0 s))
                    rw [sFl_0]
                    exact r
                by_cases y2 : pt w 25 2 = 1
                · rw [fi_pos y2, bz_t y2]
                  exact po_h (wr x (by rw [if_pos y2])) (fun h => ⟨fun z => absurd z k4, fun _ => ⟨fun z => absurd z k5, fun _ => ⟨fun z => absurd z k20, fun _ => ⟨fun z => absurd z k28, fun _ => ⟨fun _ => ⟨fun _ => ⟨fun _ => ⟨fun z => absurd z (by decide), fun _ => h⟩, fun z => absurd y1 z⟩, fun z => absurd y0 z⟩, fun z => absurd k30 z⟩⟩⟩⟩⟩) rfl
                · rw [fi_neg y2, bz_f y2]
                  exact po_h (wr _ (by rw [if_neg y2])) (fun h => ⟨fun z => absurd z k4, fun _ => ⟨fun z => absurd z k5, fun _ => ⟨fun z => absurd z k20, fun _ => ⟨fun z => absurd z k28, fun _ => ⟨fun _ => ⟨fun _ => ⟨fun _ => ⟨fun _ => h, fun z => absurd rfl z⟩, fun z => absurd y1 z⟩, fun z => absurd y0 z⟩, fun z => absurd k30 z⟩⟩⟩⟩⟩) rfl
              · rw [fi_neg y1, if_neg (fun z => y1 z.2)]
                exact po_n ⟨⟨fun z => absurd z k4, fun _ => ⟨fun z => absurd z k5, fun _ => ⟨fun z => absurd z k20, fun _ => ⟨fun z => absurd z k28, fun _ => ⟨fun _ => ⟨fun _ => ⟨fun z => absurd z y1, fun _ => trivial⟩, fun z => absurd y0 z⟩, fun z => absurd k30 z⟩⟩⟩⟩⟩, rfl⟩ v T
            · rw [fi_neg y0, if_neg (fun z => y0 z.1)]
              exact po_n ⟨⟨fun z => absurd z k4, fun _ => ⟨fun z => absurd z k5, fun _ => ⟨fun z => absurd z k20, fun _ => ⟨fun z => absurd z k28, fun _ => ⟨fun _ => ⟨fun z => absurd z y0, fun _ => trivial⟩, fun z => absurd k30 z⟩⟩⟩⟩⟩, rfl⟩ v T
          · rw [fi_neg k30, if_neg k30]
            obtain ⟨hmo, emo⟩ := X59_modeOf o v hm w
            rw [emo]
            dsimp only
            by_cases qm : mdO s.2.2.1 (pt w 12 3) < 5
            · have hmd : mdO s.2.2.1 (pt w 12 3) ≤ 4 := by omega
              have im := md_is (M := M) T hmd
              rw [if_pos qm, if_pos qm, fi_neg (show ¬ 1 + mdO s.2.2.1 (pt w 12 3) = 0 by omega), o.2.2.2.2.2.2.1.1, c4' hk]
              have ne : ¬ 1 + mdO s.2.2.1 (pt w 12 3) = 0 := by omega
              by_cases k4' : pt w 27 5 < 4
              · rw [fi_pos k4', if_pos k4']
                have r := X59_reckon (w := w) o v ht hmd (Or.inl k4')
                rw [if_pos k4'] at r
                exact po_h (po_w r) (fun h => ⟨fun z => absurd z k4, fun _ => ⟨fun z => absurd z k5, fun _ => ⟨fun z => absurd z k20, fun _ => ⟨fun z => absurd z k28, fun _ => ⟨fun z => absurd z k30, fun _ => ⟨hmo, fun z => absurd z ne, fun _ => ⟨fun _ => ⟨im, h, trivial⟩, fun z => absurd k4' z⟩⟩⟩⟩⟩⟩⟩) rfl
              · rw [fi_neg k4', if_neg k4']
                by_cases k11 : pt w 27 5 = 11
                · rw [fi_pos k11, if_pos k11]
                  by_cases y0 : pt w 20 5 = 0
                  · rw [fi_pos y0, if_pos y0]
                    have r := X59_reckon (w := w) o v ht hmd (Or.inr k11)
                    rw [if_neg k4'] at r
                    exact po_h (po_w r) (fun h => ⟨fun z => absurd z k4, fun _ => ⟨fun z => absurd z k5, fun _ => ⟨fun z => absurd z k20, fun _ => ⟨fun z => absurd z k28, fun _ => ⟨fun z => absurd z k30, fun _ => ⟨hmo, fun z => absurd z ne, fun _ => ⟨fun z => absurd z k4', fun _ => ⟨fun _ => ⟨fun _ => ⟨im, h, trivial⟩, fun z => absurd y0 z⟩, fun z => absurd k11 z⟩⟩⟩⟩⟩⟩⟩⟩) rfl
                  · rw [fi_neg y0, if_neg y0]
                    obtain ⟨h, e⟩ := X59_convx (u := u) (w := w) (M := M) x (f := c (10 + pt w 25 2)) (m := 1 + mdO s.2.2.1 (pt w 12 3)) (by omega)
                    unfold GX59_operate_200 GX59_operate_209
                    exact po_n ⟨⟨fun z => absurd z k4, fun _ => ⟨fun z => absurd z k5, fun _ => ⟨fun z => absurd z k20, fun _ => ⟨fun z => absurd z k28, fun _ => ⟨fun z => absurd z k30, fun _ => ⟨hmo, fun z => absurd z ne, fun _ => ⟨fun z => absurd z k4', fun _ => ⟨fun _ => ⟨fun z => absurd z y0, fun _ => ⟨im, h, trivial⟩⟩, fun z => absurd k11 z⟩⟩⟩⟩⟩⟩⟩⟩, e⟩ v T
                · rw [fi_neg k11, if_neg k11]
                  refine po_h (H := HX59_convert u w (c (10 + pt w 25 2)) (1 + mdO s.2.2.1 (pt w 12 3)) x M) (G := GX59_convert u w (c (10 + pt w 25 2)) (1 + mdO s.2.2.1 (pt w 12 3)) x M) ?_ (fun h => ⟨fun z => absurd z k4, fun _ => ⟨fun z => absurd z k5, fun _ => ⟨fun z => absurd z k20, fun _ => ⟨fun z => absurd z k28, fun _ => ⟨fun z => absurd z k30, fun _ => ⟨hmo, fun z => absurd z ne, fun _ => ⟨fun z => absurd z k4', fun _ => ⟨fun z => absurd z k11, fun _ => ⟨im, h, trivial⟩⟩⟩⟩⟩⟩⟩⟩⟩) rfl
                  by_cases k8 : pt w 27 5 = 8
                  · rw [if_pos k8]
                    exact po_iw (X59_conv8 o v ht hmd x k8) v T
                  · rw [if_neg k8]
                    by_cases k24 : pt w 27 5 = 24
                    · rw [if_pos k24]
                      exact po_ig (X59_conv24 o v ht hmd x k24) v T
                    · rw [if_neg k24]
                      by_cases k26 : pt w 27 5 = 26
                      · rw [if_pos k26]
                        exact po_iw (X59_conv26 o v ht hmd x k26) v T
                      · rw [if_neg k26]
                        exact po_n (X59_convx x ⟨k8, k24, k26⟩) v T
            · rw [if_neg qm, if_neg qm, fi_pos rfl]
              exact po_n ⟨⟨fun z => absurd z k4, fun _ => ⟨fun z => absurd z k5, fun _ => ⟨fun z => absurd z k20, fun _ => ⟨fun z => absurd z k28, fun _ => ⟨fun z => absurd z k30, fun _ => ⟨hmo, fun _ => trivial, fun z => absurd rfl z⟩⟩⟩⟩⟩⟩, rfl⟩ v T
end Ri
