/-! the signals: the twin's reads; the component's writes -/
set_option maxRecDepth 100000
section Sg
variable {s m p B : Nat} {M M' Mc Mt : FM} {K : Kr} {S : Sr} {soft : Nat → Int32} {num : Nat → Int64}
theorem X96_isProper {w n : Nat} {z : Int32} (hw : w < 3) (hn : n < 2147483648) (hz : z4 z) : GX96_isProper (nI w) (lN n) z M = (Int32.ofInt 1, M) := by
  have c1 : ¬ nI w < 0 := nI0 (by omega)
  have c2 : ¬ Int32.ofInt 2 < nI w := fun q => by have := (ngt (n := w) (by omega) 2 (by decide)).mp q; omega
  have c3 : ¬ lg_cmp (lN n) (Int64.ofInt 0) < 0 := fun q => by have := (o_lt hn (show 0 < 2147483648 by decide)).mp q; omega
  unfold GX96_isProper GX96_isProper_0 GX96_isProper_36 GX96_isProper_41
  rw [fi_neg c1, fi_neg c2, fi_neg c3]
  rcases hz with rfl | rfl | rfl | rfl
  · rw [fi_pos rfl]
  · rw [fi_neg (show ¬ Int32.ofInt 2 = Int32.ofInt 1 by decide), fi_pos rfl]
  · rw [fi_neg (show ¬ Int32.ofInt 4 = Int32.ofInt 1 by decide), fi_neg (show ¬ Int32.ofInt 4 = Int32.ofInt 2 by decide), fi_pos rfl]
  · rw [fi_neg (show ¬ Int32.ofInt 8 = Int32.ofInt 1 by decide), fi_neg (show ¬ Int32.ofInt 8 = Int32.ofInt 2 by decide), fi_neg (show ¬ Int32.ofInt 8 = Int32.ofInt 4 by decide), fi_pos rfl]
theorem X96_read {w n : Nat} {z : Int32} (T0 : Ty M) (W0 : Wf M) (n0 : fm_is M 99 99 m = true) (V0 : VUt m p M soft num K S) (I : VUi B p soft K S) (hw : w < 3) (hn : n < 2147483648) (hz : z4 z) :
    ∃ X, (HX96_read m (nI w) (lN n) z M ∧ GX96_read m (nI w) (lN n) z M = ((gRd p w n z soft num K S).1, X)) ∧ VUt m p X soft num (kSe (¬ cs (gRd p w n z soft num K S).2.2 = Int32.ofInt 1) (gRd p w n z soft num K S).2.1) (gRd p w n z soft num K S).2.2 := by
  obtain ⟨i1, i4, i0, iK, iS, _⟩ := I
  have T := ty_94 (m := m) T0 (Int32.ofInt 0)
  have W := wf_sI (f := 394) (i := 0) (v := Int32.ofInt 0) (lo := 99) (hi := 99) W0 rfl n0
  have nn : fm_is (fm_sI M 394 m 0 (Int32.ofInt 0)) 99 99 m = true := n0
  have V := vut_94 V0 (Int32.ofInt 0)
  have p94 : (fm_sI M 394 m 0 (Int32.ofInt 0)).1 394 m 0 ≤ 0 := by rw [rI, if_pos ⟨rfl, rfl, rfl⟩]; decide
  have pr := X96_isProper (M := M) hw hn hz
  have hH : ∀ P : Prop, P → ((Int32.ofInt 1 = 0 → HX96_read_16 m (nI w) (lN n) z m (Int32.ofInt 1) M) ∧ (¬ Int32.ofInt 1 = 0 → P)) := fun P h => ⟨fun y => absurd y (by decide), fun _ => h⟩
  unfold HX96_read HX96_read_0 GX96_read GX96_read_0
  dsimp only
  rw [pr]
  dsimp only
  rw [fi_neg (show ¬ Int32.ofInt 1 = 0 by decide)]
  refine Exists.imp (fun X q => ⟨⟨hH _ q.1.1, q.1.2⟩, q.2⟩) (?_ : ∃ X, (HX96_read_16 m (nI w) (lN n) z m (Int32.ofInt 0) M ∧ GX96_read_16 m (nI w) (lN n) z m (Int32.ofInt 0) M = ((gRd p w n z soft num K S).1, X)) ∧ VUt m p X soft num (kSe (¬ cs (gRd p w n z soft num K S).2.2 = Int32.ofInt 1) (gRd p w n z soft num K S).2.1) (gRd p w n z soft num K S).2.2)
  unfold HX96_read_16 GX96_read_16 HX96_read_67 GX96_read_67 HX96_read_94
  dsimp only
  rw [fi_pos p94]
  generalize fm_sI M 394 m 0 (Int32.ofInt 0) = N at *
  have hb : ∀ h, h < 4 → N.1 3 (N.2.2 396 m 0) h = Int32.ofInt 0 ∨ N.1 3 (N.2.2 396 m 0) h = Int32.ofInt 1 := fun h hh => by
    rw [V.1.2.1 h hh]
    exact i0 h hh
  have go : ∀ (v : Int64) (N' : FM) {K' : Kr} {S' : Sr}, Ty N' → Wf N' → fm_is N' 99 99 m = true → VUt m p N' soft num K' S' → VKi K' → VSi B S' → (gRd p w n z soft num K S) = (v, K', S') →
      ∃ X, (HX96_settle m N' ∧ GX96_read_94 m v N' = ((gRd p w n z soft num K S).1, X)) ∧ VUt m p X soft num (kSe (¬ cs (gRd p w n z soft num K S).2.2 = Int32.ofInt 1) (gRd p w n z soft num K S).2.1) (gRd p w n z soft num K S).2.2 := fun v N' {K' S'} Tr Wr nr Vr Ik Ir hg => by
    obtain ⟨X, ⟨x1, x2⟩, x3⟩ := t_after Tr Wr nr Vr Ik Ir
    rw [hg]
    refine ⟨X, ⟨x1, ?_⟩, x3⟩
    unfold GX96_read_94
    dsimp only
    rw [x2]
  have hc : w = 0 ∨ w = 1 ∨ w = 2 := by omega
  rcases hc with rfl | rfl | rfl
  · obtain ⟨a1, a2⟩ := X96_readTimer T nn V.1.1 i4 hn hz hb
    have a2' : GX96_readTimer m (lN n) z N = (tR p n z soft num, N) := by rw [a2, tR_c i4 V.1.2.1 V.1.2.2]
    obtain ⟨X, ⟨x1, x2⟩, x3⟩ := go (tR p n z soft num) N T W nn V iK iS (by unfold gRd; rw [if_pos rfl])
    rw [fi_pos (show nI 0 = 0 from rfl), a2']
    dsimp only
    exact ⟨X, ⟨⟨fun _ => ⟨fun _ => ⟨a1, x1, trivial⟩, fun y => absurd rfl y⟩, fun y => absurd p94 y⟩, x2⟩, x3⟩
  · rw [fi_neg (show ¬ nI 1 = 0 by decide), fi_pos (show nI 1 = Int32.ofInt 1 from rfl)]
    by_cases h4 : z = Int32.ofInt 4
    · obtain ⟨Y, ⟨y1, y2⟩, y3, y4, y5, y6⟩ := X96_readController T W nn V.1.1 i4 hn V.2.1 iK
      have nY : fm_is Y 99 99 m = true := by unfold fm_is at nn ⊢; rw [show Y.2.2 = N.2.2 from y4.1]; exact nn
      obtain ⟨X, ⟨x1, x2⟩, x3⟩ := go (kRd p n K).1 Y y5 (wf_frK T W nn y4) nY ⟨frK_tm T W nn y4 V.1, y3, frK_s T W nn y4 V.2.2⟩ y6 iS (by unfold gRd; rw [if_neg (by decide), if_pos rfl, if_pos h4])
      rw [fi_pos h4, y2]
      dsimp only
      exact ⟨X, ⟨⟨fun _ => ⟨fun y => absurd y (by decide), fun _ => ⟨fun _ => ⟨fun _ => ⟨y1, x1, trivial⟩, fun y => absurd h4 y⟩, fun y => absurd rfl y⟩⟩, fun y => absurd p94 y⟩, x2⟩, x3⟩
    · obtain ⟨X, ⟨x1, x2⟩, x3⟩ := go (Int64.ofInt 0) N T W nn V iK iS (by unfold gRd; rw [if_neg (by decide), if_pos rfl, if_neg h4])
      rw [fi_neg h4]
      exact ⟨X, ⟨⟨fun _ => ⟨fun y => absurd y (by decide), fun _ => ⟨fun _ => ⟨fun y => absurd y h4, fun _ => ⟨x1, trivial⟩⟩, fun y => absurd rfl y⟩⟩, fun y => absurd p94 y⟩, x2⟩, x3⟩
  · have c8 : 0 ≤ lg_cmp (lN n) (Int64.ofInt 8) ↔ ¬ n < 8 := (o_ge hn (show 8 < 2147483648 by decide)).trans (by omega)
    rw [fi_neg (show ¬ nI 2 = 0 by decide), fi_neg (show ¬ nI 2 = Int32.ofInt 1 by decide), propext c8, o_32 hn]
    by_cases h1 : z = Int32.ofInt 1
    · rw [fi_pos h1]
      by_cases h8 : n < 8
      · obtain ⟨Y, ⟨y1, y2⟩, y3, y4⟩ := X96_readSerial T W nn V.2.2 iS h8
        have y5 : Ty Y := by
          have := (gX96_readSerial m (nI n) N T nn y1).2.1
          rw [y2] at this
          exact this
        have nY : fm_is Y 99 99 m = true := by unfold fm_is at nn ⊢; rw [show Y.2.2 = N.2.2 from y4.1]; exact nn
        obtain ⟨X, ⟨x1, x2⟩, x3⟩ := go (sRd n S).1 Y y5 (wf_frT T W nn y4) nY ⟨frT_tm T W nn y4 V.1, frT_k T W nn y4 V.2.1, y3⟩ iK (vsi_rd iS n) (by unfold gRd; rw [if_neg (by decide), if_neg (by decide), if_pos ⟨h1, h8⟩])
        rw [fi_neg (fun y => y h8), y2]
        dsimp only
        exact ⟨X, ⟨⟨fun _ => ⟨fun y => absurd y (by decide), fun _ => ⟨fun y => absurd y (by decide), fun _ => ⟨fun _ => ⟨fun y => absurd h8 y, fun _ => ⟨y1, x1, trivial⟩⟩, fun y => absurd h1 y⟩⟩⟩, fun y => absurd p94 y⟩, x2⟩, x3⟩
      · obtain ⟨X, ⟨x1, x2⟩, x3⟩ := go (Int64.ofInt 0) N T W nn V iK iS (by unfold gRd; rw [if_neg (by decide), if_neg (by decide), if_neg (fun q => h8 q.2)])
        rw [fi_pos h8]
        exact ⟨X, ⟨⟨fun _ => ⟨fun y => absurd y (by decide), fun _ => ⟨fun y => absurd y (by decide), fun _ => ⟨fun _ => ⟨fun _ => ⟨x1, trivial⟩, fun y => absurd h8 y⟩, fun y => absurd h1 y⟩⟩⟩, fun y => absurd p94 y⟩, x2⟩, x3⟩
    · obtain ⟨X, ⟨x1, x2⟩, x3⟩ := go (Int64.ofInt 0) N T W nn V iK iS (by unfold gRd; rw [if_neg (by decide), if_neg (by decide), if_neg (fun q => h1 q.1)])
      rw [fi_neg h1]
      exact ⟨X, ⟨⟨fun _ => ⟨fun y => absurd y (by decide), fun _ => ⟨fun y => absurd y (by decide), fun _ => ⟨fun y => absurd y h1, fun _ => ⟨x1, trivial⟩⟩⟩⟩, fun y => absurd p94 y⟩, x2⟩, x3⟩
end Sg
/-- the unit, as both sides hold it -/
def RelG (s m p B : Nat) (Mc Mt : FM) : Prop := ∃ soft num K S, fm_is Mc 79 79 s = true ∧ fm_is Mt 99 99 m = true ∧ VUc s p Mc soft num K S ∧ VUt m p Mt soft num K S ∧ VUi B p soft K S
