/-! the signals: reads, on both sides -/
set_option maxRecDepth 100000
section Sg
variable {s m p B : Nat} {M M' Mc Mt : FM} {K : Kr} {S : Sr} {soft : Nat → Int32} {num : Nat → Int64}
theorem wf_num (W : Wf M) (h2 : M'.2.2 = M.2.2) (hz : ∀ a, M.2.2 0 a 0 = 0 → ∀ f i, M'.1 f a i = M.1 f a i ∧ M'.2.1 f a i = M.2.1 f a i) : Wf M' :=
  (wi_n h2 (fun a ha => hz a (W.1 a ha 0 0).2.2) (wi_N W)).1
theorem wf_frS {L : Nat} (T : Ty M) (W : Wf M) (n : fm_is M 78 78 L = true) (F : FrS L M M') : Wf M' := wf_num W F.1 (fun a ha f i => F.2 f a i (by
  rintro (⟨q, _⟩ | ⟨_, q | q | q⟩)
  · rw [q] at ha; exact fm_ist rfl n ha
  · rw [q] at ha; exact fm_ist rfl (tN_230 T.1 n) ha
  · rw [q] at ha; exact fm_ist rfl (tN_233 T.1 n) ha
  · rw [q] at ha; exact fm_ist rfl (tN_235 T.1 n) ha))
theorem wf_frC {C : Nat} (T : Ty M) (W : Wf M) (n : fm_is M 77 77 C = true) (F : FrC C M M') : Wf M' := wf_num W F.1 (fun a ha f i => ⟨F.2.1 f a i (by
  rintro (⟨q, _⟩ | ⟨_, q | q | q⟩)
  · rw [q] at ha; exact fm_ist rfl n ha
  · rw [q] at ha; exact fm_ist rfl (tN_224 T.1 n) ha
  · rw [q] at ha; exact fm_ist rfl (tN_225 T.1 n) ha
  · rw [q] at ha; exact fm_ist rfl (tN_226 T.1 n) ha), by rw [F.2.2]⟩)
theorem wf_frT (T : Ty M) (W : Wf M) (n : fm_is M 99 99 m = true) (F : FrT m M M') : Wf M' := wf_num W F.1 (fun a ha f i => F.2 f a i (by
  rintro (⟨q, _⟩ | ⟨_, q | q | q | q⟩)
  · rw [q] at ha; exact fm_ist rfl n ha
  · rw [q] at ha; exact fm_ist rfl (tN_405 T.1 n) ha
  · rw [q] at ha; exact fm_ist rfl (tN_406 T.1 n) ha
  · rw [q] at ha; exact fm_ist rfl (tN_410 T.1 n) ha
  · rw [q] at ha; exact fm_ist rfl (tN_412 T.1 n) ha))
theorem wf_frK (T : Ty M) (W : Wf M) (n : fm_is M 99 99 m = true) (F : FrK m M M') : Wf M' := wf_num W F.1 (fun a ha f i => ⟨F.2.1 f a i (by
  rintro ⟨_, q | q | q | q | q | q⟩
  · rw [q] at ha; exact fm_ist rfl (tN_399 T.1 n) ha
  · rw [q] at ha; exact fm_ist rfl (tN_400 T.1 n) ha
  · rw [q] at ha; exact fm_ist rfl (tN_401 T.1 n) ha
  · rw [q] at ha; exact fm_ist rfl (tN_402 T.1 n) ha
  · rw [q] at ha; exact fm_ist rfl (tN_403 T.1 n) ha
  · rw [q] at ha; exact fm_ist rfl (tN_404 T.1 n) ha), F.2.2 f a i⟩)
theorem vui_se (h1 : 1 ≤ p) (h4 : p ≤ 4) (hs : ∀ h, h < 4 → soft h = 0 ∨ soft h = 1) (I : VKi K) (IS : VSi B S) : VUi B p soft (kSe (¬ cs S = Int32.ofInt 1) K) S := by
  refine ⟨h1, h4, hs, vki_se I, IS, ?_⟩
  have := ib_sg (¬ cs S = Int32.ofInt 1) K.1 (i := 10) (by decide)
  rw [if_pos rfl] at this
  exact this
/-- behind what a part did: the unit looks -/
theorem c_after (T : Ty M) (W : Wf M) (n : fm_is M 79 79 s = true) (V : VUc s p M soft num K S) (IS : VSi B S) : ∃ X, (HX30_look s M ∧ GX30_look s M = X) ∧ VUc s p X soft num (kSe (¬ cs S = Int32.ofInt 1) K) S := by
  obtain ⟨v1, v2, v3, v4, v5⟩ := V
  have nt := tN_240 T.1 n
  have nC := tN_241 T.1 n
  have nL := tN_242 T.1 n
  obtain ⟨X, x1, x2, x3⟩ := X30_look T n v2 v4 IS
  refine ⟨X, x1, ?_⟩
  have y1 := frC_tm T W nt nC nL x3 v1
  have y4 := frC_s T W nt nC nL x3 v4
  have y3 : X.1 223 (M.2.2 241 s 0) 0 = nI (2 * p) := by
    rw [x3.2.1 223 _ 0 (by omega)]
    exact v3
  unfold VUc
  rw [x3.1]
  exact ⟨y1, x2, y3, y4, v5⟩
theorem t_after (T : Ty M) (W : Wf M) (n : fm_is M 99 99 m = true) (V : VUt m p M soft num K S) (I : VKi K) (IS : VSi B S) : ∃ X, (HX96_settle m M ∧ GX96_settle m M = X) ∧ VUt m p X soft num (kSe (¬ cs S = Int32.ofInt 1) K) S := by
  obtain ⟨X, x1, x2, x3, x4⟩ := X96_settle T W n V.2.1 I V.2.2 IS
  exact ⟨X, x1, frK_tm T W n x3 V.1, x2, frK_s T W n x3 V.2.2⟩
/-- the twin's word that nothing was thrown changes nothing -/
theorem vut_94 (V : VUt m p M soft num K S) (v : Int32) : VUt m p (fm_sI M 394 m 0 v) soft num K S := by
  obtain ⟨v1, v2, v3⟩ := V
  exact ⟨vtt_tr (M := M) rfl (fun i => rIf (by decide)) (rIf (by decide)) rfl (fun i => rfl) v1, vkt_tr (M := M) rfl (fun b i _ => rIf (by decide)) v2, vst_tr (M := M) rfl (fun b i _ => rIf (by decide)) (fun f h1 h2 => if_neg (fun q => by have := q.1; omega)) rfl v3⟩
theorem ty_94 (T : Ty M) (v : Int32) : Ty (fm_sI M 394 m 0 v) := ⟨T.1, tyb_sI (f := 394) rfl T.2⟩
theorem tR_c {n : Nat} {z : Int32} {f f' : Nat → Int32} {g g' : Nat → Int64} (h4 : p ≤ 4) (h1 : ∀ h, h < 4 → f h = f' h) (h2 : ∀ k, k < 5 → g k = g' k) : tR p n z f g = tR p n z f' g' := by
  unfold tR
  cases hw : wh p n with
  | some k =>
    have := h2 k (by rcases wh_lt hw with e | e <;> omega)
    dsimp only
    rw [this]
  | none =>
    dsimp only
    by_cases h : z = Int32.ofInt 4 ∧ n % 4 = 0 ∧ n < 4 * p
    · rw [fi_pos h, fi_pos h, h1 _ (by omega)]
    · rw [fi_neg h, fi_neg h]
/-- what is read in a window, and what becomes of controller and line -/
noncomputable def gRd (p w n : Nat) (z : Int32) (soft : Nat → Int32) (num : Nat → Int64) (K : Kr) (S : Sr) : Int64 × Kr × Sr :=
  if w = 0 then (tR p n z soft num, K, S) else if w = 1 then (if z = Int32.ofInt 4 then ((kRd p n K).1, (kRd p n K).2, S) else (Int64.ofInt 0, K, S)) else
  (if z = Int32.ofInt 1 ∧ n < 8 then ((sRd n S).1, K, (sRd n S).2) else (Int64.ofInt 0, K, S))
theorem X30_read {w n : Nat} {z : Int32} (T : Ty M) (W : Wf M) (ns : fm_is M 79 79 s = true) (V : VUc s p M soft num K S) (I : VUi B p soft K S) (hw : w < 3) (hn : n < 2147483648) :
    ∃ X, (HX30_read s (nI w) (lN n) z M ∧ GX30_read s (nI w) (lN n) z M = ((gRd p w n z soft num K S).1, X)) ∧ VUc s p X soft num (kSe (¬ cs (gRd p w n z soft num K S).2.2 = Int32.ofInt 1) (gRd p w n z soft num K S).2.1) (gRd p w n z soft num K S).2.2 := by
  obtain ⟨i1, i4, i0, iK, iS, _⟩ := I
  have nt := tN_240 T.1 ns
  have nC := tN_241 T.1 ns
  have nL := tN_242 T.1 ns
  have V0 := V
  obtain ⟨v1, v2, v3, v4, v5, v6, v7⟩ := V
  have in3 : fm_in M (M.2.2 243 s 0) (nI w) = true := in_nI (tL_243 T.1 ns) hw (by decide)
  have tt : M.2.2 0 (M.2.2 240 s 0) 0 = 80 := by have := fm_isd nt; omega
  have tC : M.2.2 0 (M.2.2 241 s 0) 0 = 77 := by have := fm_isd nC; omega
  have tL : M.2.2 0 (M.2.2 242 s 0) 0 = 78 := by have := fm_isd nL; omega
  have go : ∀ (r : Int64 × FM), (fi (fm_is M 77 77 (M.2.2 3 (M.2.2 243 s 0) w) = true) (GX33_read (M.2.2 3 (M.2.2 243 s 0) w) (lN n) z M) (fi (fm_is M 78 78 (M.2.2 3 (M.2.2 243 s 0) w) = true) (GX31_read (M.2.2 3 (M.2.2 243 s 0) w) (lN n) z M) (GX32_read (M.2.2 3 (M.2.2 243 s 0) w) (lN n) z M))) = r →
      ((fm_is M 77 77 (M.2.2 3 (M.2.2 243 s 0) w) = true → HX33_read (M.2.2 3 (M.2.2 243 s 0) w) (lN n) z M) ∧ (¬ fm_is M 77 77 (M.2.2 3 (M.2.2 243 s 0) w) = true → (fm_is M 78 78 (M.2.2 3 (M.2.2 243 s 0) w) = true → HX31_read (M.2.2 3 (M.2.2 243 s 0) w) (lN n) z M) ∧ (¬ fm_is M 78 78 (M.2.2 3 (M.2.2 243 s 0) w) = true → fm_is M 80 80 (M.2.2 3 (M.2.2 243 s 0) w) = true ∧ HX32_read (M.2.2 3 (M.2.2 243 s 0) w) (lN n) z M))) →
      ∀ {K' : Kr} {S' : Sr}, Ty r.2 → Wf r.2 → fm_is r.2 79 79 s = true → VUc s p r.2 soft num K' S' → VSi B S' → (gRd p w n z soft num K S) = (r.1, K', S') → ∃ X, (HX30_read s (nI w) (lN n) z M ∧ GX30_read s (nI w) (lN n) z M = ((gRd p w n z soft num K S).1, X)) ∧ VUc s p X soft num (kSe (¬ cs (gRd p w n z soft num K S).2.2 = Int32.ofInt 1) (gRd p w n z soft num K S).2.1) (gRd p w n z soft num K S).2.2 :=
    fun r hr hh {K' S'} Tr Wr nr Vr Ir hg => by
      obtain ⟨X, ⟨x1, x2⟩, x3⟩ := c_after Tr Wr nr Vr Ir
      rw [hg]
      refine ⟨X, ⟨?_, ?_⟩, x3⟩
      · unfold HX30_read HX30_read_0
        dsimp only
        rw [o_cl (by omega), hr]
        exact ⟨in3, hh, x1, trivial⟩
      · unfold GX30_read GX30_read_0
        dsimp only
        rw [o_cl (by omega), hr, x2]
  have hc : w = 0 ∨ w = 1 ∨ w = 2 := by omega
  rcases hc with rfl | rfl | rfl
  · obtain ⟨a1, a2⟩ := X32_read (n := n) (z := z) T nt v1.1 i4 hn
    have r77 : ¬ fm_is M 77 77 (M.2.2 240 s 0) = true := isN tt (by decide)
    have r78 : ¬ fm_is M 78 78 (M.2.2 240 s 0) = true := isN tt (by decide)
    refine go (tR p n z soft num, M) ?_ ?_ T W ns V0 iS ?_
    · rw [v5, fi_neg r77, fi_neg r78, a2, tR_c i4 v1.2.1 v1.2.2]
    · rw [v5]
      exact ⟨fun y => absurd y r77, fun _ => ⟨fun y => absurd y r78, fun _ => ⟨nt, a1⟩⟩⟩
    · unfold gRd
      rw [if_pos rfl]
  · have r77 : fm_is M 77 77 (M.2.2 241 s 0) = true := nC
    by_cases hz : z = Int32.ofInt 4
    · obtain ⟨X, ⟨x1, x2⟩, x3, x4⟩ := X33_read T nC v3 i4 hn v2
      have TX : Ty X := by
        have := (gX33_read (M.2.2 241 s 0) (lN n) (Int32.ofInt 4) M T nC x1).2.1
        rw [x2] at this
        exact this
      refine go ((kRd p n K).1, X) ?_ ?_ TX (wf_frC T W nC x4) (by unfold fm_is at ns ⊢; rw [show X.2.2 = M.2.2 from x4.1]; exact ns) (K' := (kRd p n K).2) ?_ iS ?_
      · rw [v6, fi_pos r77, hz, x2]
      · rw [v6, hz]
        exact ⟨fun _ => x1, fun y => absurd r77 y⟩
      · have y1 := frC_tm T W nt nC nL x4 v1
        have y4 := frC_s T W nt nC nL x4 v4
        have y3 : X.1 223 (M.2.2 241 s 0) 0 = nI (2 * p) := by
          rw [x4.2.1 223 _ 0 (by omega)]
          exact v3
        unfold VUc
        rw [show X.2.2 = M.2.2 from x4.1]
        exact ⟨y1, x3, y3, y4, v5, v6, v7⟩
      · unfold gRd
        rw [if_neg (by decide), if_pos rfl, if_pos hz]
    · have e0 : GX33_read (M.2.2 241 s 0) (lN n) z M = (Int64.ofInt 0, M) := by
        unfold GX33_read GX33_read_0 GX33_read_15
        rw [fi_neg hz]
      refine go (Int64.ofInt 0, M) ?_ ?_ T W ns V0 iS ?_
      · rw [v6, fi_pos r77, e0]
      · rw [v6]
        exact ⟨fun _ => ⟨fun y => absurd y hz, fun _ => trivial⟩, fun y => absurd r77 y⟩
      · unfold gRd
        rw [if_neg (by decide), if_pos rfl, if_neg hz]
  · have r77 : ¬ fm_is M 77 77 (M.2.2 242 s 0) = true := isN tL (by decide)
    have r78 : fm_is M 78 78 (M.2.2 242 s 0) = true := nL
    by_cases hz : z = Int32.ofInt 1 ∧ n < 8
    · obtain ⟨X, ⟨x1, x2⟩, x3, x4⟩ := X31_read_L T nL v4 iS hz.2
      have TX : Ty X := by
        have := (gX31_read (M.2.2 242 s 0) (lN n) (Int32.ofInt 1) M T nL x1).2.1
        rw [x2] at this
        exact this
      refine go ((sRd n S).1, X) ?_ ?_ TX (wf_frS T W nL x4) (by unfold fm_is at ns ⊢; rw [show X.2.2 = M.2.2 from x4.1]; exact ns) (S' := (sRd n S).2) (K' := K) ?_ (vsi_rd iS n) ?_
      · rw [v7, fi_neg r77, fi_pos r78, hz.1, x2]
      · rw [v7, hz.1]
        exact ⟨fun y => absurd y r77, fun _ => ⟨fun _ => x1, fun y => absurd r78 y⟩⟩
      · have y1 := frS_tm T W nt nC nL x4 v1
        have y2 := frS_k T W nt nC nL x4 v2
        have y3 := (frS_23 T W nt nC nL x4).trans v3
        unfold VUc
        rw [show X.2.2 = M.2.2 from x4.1]
        exact ⟨y1, y2, y3, x3, v5, v6, v7⟩
      · unfold gRd
        rw [if_neg (by decide), if_neg (by decide), if_pos hz]
    · have k7 : lg_cmp (lN n) (Int64.ofInt 7) ≤ 0 ↔ n < 8 := (o_le hn (show 7 < 2147483648 by decide)).trans (by omega)
      have e0 : GX31_read (M.2.2 242 s 0) (lN n) z M = (Int64.ofInt 0, M) ∧ HX31_read (M.2.2 242 s 0) (lN n) z M := by
        unfold GX31_read GX31_read_0 GX31_read_13 HX31_read HX31_read_0
        by_cases h1 : z = Int32.ofInt 1
        · have h8 : ¬ n < 8 := fun y => hz ⟨h1, y⟩
          rw [fi_pos h1, fi_neg (fun y => h8 (k7.mp y))]
          exact ⟨rfl, fun _ => ⟨fun y => absurd (k7.mp y) h8, fun _ => trivial⟩, fun _ => trivial⟩
        · rw [fi_neg h1]
          exact ⟨rfl, fun y => absurd y h1, fun _ => trivial⟩
      refine go (Int64.ofInt 0, M) ?_ ?_ T W ns V0 iS ?_
      · rw [v7, fi_neg r77, fi_pos r78, e0.1]
      · rw [v7]
        exact ⟨fun y => absurd y r77, fun _ => ⟨fun _ => e0.2, fun y => absurd r78 y⟩⟩
      · unfold gRd
        rw [if_neg (by decide), if_neg (by decide), if_neg hz]
end Sg
