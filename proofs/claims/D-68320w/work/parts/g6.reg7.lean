/-! regions: numbers are written; the twin begins anew -/
set_option maxRecDepth 100000
def hldP (K : Rg) (i : Nat) : Prop := ib (K.1 i) 7 = true ∨ (i < 7 ∧ ib (K.1 (i + 1)) 7 = true ∧ kdR (K.1 (i + 1)) = Int32.ofInt 1)
noncomputable def nmK (i : Nat) (v : Int64) (K : Rg) : Rg := fi (hldP K i) K (K.1, fun j => if j = i then ul v % 2 ^ 54 else K.2 j)
theorem nmK_1 {K : Rg} {i : Nat} {v : Int64} : (nmK i v K).1 = K.1 := by
  unfold nmK
  by_cases q : hldP K i
  · rw [fi_pos q]
  · rw [fi_neg q]
theorem nmK_i {K : Rg} (I : VGi K) (i : Nat) (v : Int64) : VGi (nmK i v K) := by
  unfold nmK
  by_cases h : hldP K i
  · rw [fi_pos h]; exact I
  · rw [fi_neg h]
    intro j hj
    refine ⟨?_, (I j hj).2⟩
    show (if j = i then ul v % 2 ^ 54 else K.2 j) < 2 ^ 54
    split
    · exact Nat.mod_lt _ (by decide)
    · exact (I j hj).1
theorem m54 (v : Int64) : v &&& Int64.ofInt 18014398509481983 = lN (ul v % 2 ^ 54) := by
  apply ul_inj
  rw [ul_and, show ul (Int64.ofInt 18014398509481983) = 2 ^ 54 - 1 from rfl, Nat.and_two_pow_sub_one_eq_mod, l_big]
  have := Nat.mod_lt (ul v) (show 2 ^ 54 > 0 by decide)
  have : (2 : Nat) ^ 54 = 18014398509481984 := by decide
  omega
theorem bt54 (v : Int64) (M : FM) : GX102_bits v (Int32.ofInt 0) (Int32.ofInt 54) M = (lN (ul v % 2 ^ 54), M) := by
  unfold GX102_bits GX102_bits_0
  rw [← m54]
  refine congrArg (fun z => (z, M)) (ul_inj ?_)
  rw [ul_and, ul_and, ul_ushr, show ui (Int32.ofInt 0) % 64 = 0 from rfl, Nat.pow_zero, Nat.div_one]
  rfl
section Nm
variable {g w : Nat} {K : Rg} {M : FM}
theorem VGc0 (V : VGc g M K) : VG0 g M K := fun i hi => ⟨(V i hi).1, (V i hi).2.1⟩
theorem X86_number (I : VGi K) (Tm : Ty M) (n : fm_is M 90 90 g = true) (S : StG g M) (O : OdS M) (V : VGc g M K) {i : Nat} (hi : i < 8) (v : Int64) :
    ∃ M', (HX86_number g (nI i) v M ∧ GX86_number g (nI i) v M = M') ∧ Ty M' ∧ FrG g M M' ∧ VGc g M' (nmK i v K) ∧ ((M'.1 285 g 0 = M.1 285 g 0 ∧ nmK i v K = K) ∨ M'.1 285 g 0 = M.1 285 g 0 + Int32.ofInt 1) := by
  have inn : ∀ {j}, j < 8 → fm_in M (M.2.2 284 g 0) (nI j) = true := fun h => in_nI (tL_284 Tm.1 n) h (by decide)
  have lk : ∀ j, j < 8 → GX87_isLocked (M.2.2 3 (M.2.2 284 g 0) j) M = (bz (ib (K.1 j) 7 = true), M) := fun j hj => X87_isLocked (V j hj).1
  have L : ∃ M', (HX86_lay g (fm_sL M 281 (rgn g i M) 0 (lN (ul v % 2 ^ 54))) ∧ GX86_lay g (fm_sL M 281 (rgn g i M) 0 (lN (ul v % 2 ^ 54))) = M') ∧ Ty M' ∧ FrG g M M' ∧ (¬ hldP K i → VGc g M' (nmK i v K)) ∧ M'.1 285 g 0 = M.1 285 g 0 + Int32.ofInt 1 := by
    have I' : VGi (K.1, fun j => if j = i then ul v % 2 ^ 54 else K.2 j) := fun j hj => ⟨by
      show (if j = i then ul v % 2 ^ 54 else K.2 j) < 2 ^ 54
      split
      · exact Nat.mod_lt _ (by decide)
      · exact (I j hj).1, (I j hj).2⟩
    obtain ⟨X, x1, x2, x3, x4, x5⟩ := X86_lay I' (M := fm_sL M 281 (rgn g i M) 0 (lN (ul v % 2 ^ 54))) (ty_eq (M := M) rfl rfl Tm) (by exact n) S O (fun j hj => ⟨(V j hj).1, by
      show (fm_sL M 281 (rgn g i M) 0 (lN (ul v % 2 ^ 54))).2.1 281 (rgn g j M) 0 = lN (if j = i then ul v % 2 ^ 54 else K.2 j)
      by_cases e : j = i
      · rw [rL, if_pos ⟨rfl, by rw [e], rfl⟩, if_pos e]
      · rw [rL, if_neg (fun q => e (S _ _ hj hi q.2.1)), if_neg e]
        exact (V j hj).2.1⟩)
    refine ⟨X, x1, x2, frG_t (frG_L (frG_r g M) (by decide) hi) x3, fun h => ?_, x5⟩
    unfold nmK
    rw [fi_neg h]
    exact x4
  obtain ⟨X, ⟨x1, x2⟩, x3, x4, x5, x6⟩ := L
  -- the second half
  have e44 : ∀ (h : Prop), (hldP K i ↔ ib (K.1 i) 7 = true ∨ h) → HX86_number_44 g (nI i) v (bz h) M ∧ GX86_number_44 g (nI i) v (bz h) M = fi (hldP K i) M X := fun h hh => by
    constructor
    · unfold HX86_number_44
      dsimp only
      rw [o_cl (by omega), lk i hi]
      refine ⟨inn hi, fun _ => ⟨fun _ => ⟨inn hi, ?_⟩, fun _ => trivial⟩, fun _ => trivial⟩
      dsimp only
      rw [bt54]
      exact ⟨x1, trivial⟩
    · unfold GX86_number_44 GX86_number_83
      dsimp only
      rw [o_cl (by omega), lk i hi]
      dsimp only
      rw [bt54, fi_bz, fi_bz]
      dsimp only
      rw [show M.2.2 3 (M.2.2 284 g 0) i = rgn g i M from rfl, x2]
      by_cases a : ib (K.1 i) 7 = true
      · rw [fi_pos a, fi_pos (hh.mpr (Or.inl a))]
      · rw [fi_neg a]
        by_cases b : h
        · rw [fi_pos b, fi_pos (hh.mpr (Or.inr b))]
        · rw [fi_neg b, fi_neg (fun q => (hh.mp q).elim a b)]
  have fin : ∀ (o : Prop), (HX86_number g (nI i) v M ∧ GX86_number g (nI i) v M = fi (hldP K i) M X) → ∃ M', (HX86_number g (nI i) v M ∧ GX86_number g (nI i) v M = M') ∧ Ty M' ∧ FrG g M M' ∧ VGc g M' (nmK i v K) ∧ ((M'.1 285 g 0 = M.1 285 g 0 ∧ nmK i v K = K) ∨ M'.1 285 g 0 = M.1 285 g 0 + Int32.ofInt 1) := fun _ k => by
    by_cases h : hldP K i
    · rw [fi_pos h] at k
      have e : nmK i v K = K := by unfold nmK; rw [fi_pos h]
      exact ⟨M, k, Tm, frG_r g M, by rw [e]; exact V, Or.inl ⟨rfl, e⟩⟩
    · rw [fi_neg h] at k
      exact ⟨X, k, x3, x4, x5 h, Or.inr x6⟩
  refine fin True ?_
  have a1 : nI i + Int32.ofInt 1 = nI (i + 1) := up_1 (by omega)
  have h8 : Int32.ofInt 8 ≤ nI (i + 1) ↔ 8 ≤ i + 1 := by rw [nge (by omega) 8 (by decide)]; omega
  unfold HX86_number HX86_number_0 GX86_number GX86_number_0 HX86_number_43 GX86_number_43
  dsimp only
  rw [a1, propext h8]
  by_cases q : 8 ≤ i + 1
  · obtain ⟨b1, b2⟩ := e44 False ⟨fun z => z.elim Or.inl (fun z => by omega), fun z => z.elim Or.inl (fun z => z.elim)⟩
    rw [bz_f (fun z => z)] at b1 b2
    rw [fi_pos q]
    exact ⟨⟨fun _ => b1, fun z => absurd q z⟩, b2⟩
  · rw [fi_neg q, o_cl (by omega), lk (i + 1) (by omega)]
    dsimp only
    rw [fi_bz, show GX87_span (M.2.2 3 (M.2.2 284 g 0) (i + 1)) M = _ from X87_span (V (i + 1) (by omega)).1]
    dsimp only
    have k34 : 33 + ui (kdR (K.1 (i + 1))) = 34 ↔ kdR (K.1 (i + 1)) = Int32.ofInt 1 := by
      rcases kd_4 (K.1 (i + 1)) with h | h | h | h <;> rw [h] <;> decide
    rw [propext k34]
    by_cases p : ib (K.1 (i + 1)) 7 = true
    · by_cases r : kdR (K.1 (i + 1)) = Int32.ofInt 1
      · obtain ⟨b1, b2⟩ := e44 True ⟨fun _ => Or.inr trivial, fun _ => Or.inr ⟨by omega, p, r⟩⟩
        rw [bz_t trivial] at b1 b2
        rw [fi_pos p, fi_pos r]
        exact ⟨⟨fun z => absurd z q, fun _ => ⟨inn (by omega), fun z => absurd p (bz_0.mp z), fun _ => ⟨inn (by omega), fun _ => b1, fun z => absurd r z⟩⟩⟩, b2⟩
      · obtain ⟨b1, b2⟩ := e44 False ⟨fun z => z.elim Or.inl (fun z => absurd z.2.2 r), fun z => z.elim Or.inl (fun z => z.elim)⟩
        rw [bz_f (fun z => z)] at b1 b2
        rw [fi_pos p, fi_neg r]
        exact ⟨⟨fun z => absurd z q, fun _ => ⟨inn (by omega), fun z => absurd p (bz_0.mp z), fun _ => ⟨inn (by omega), fun z => absurd z r, fun _ => b1⟩⟩⟩, b2⟩
    · obtain ⟨b1, b2⟩ := e44 False ⟨fun z => z.elim Or.inl (fun z => absurd z.2.1 p), fun z => z.elim Or.inl (fun z => z.elim)⟩
      rw [bz_f (fun z => z)] at b1 b2
      rw [fi_neg p]
      exact ⟨⟨fun z => absurd z q, fun _ => ⟨inn (by omega), fun _ => b1, fun z => absurd (bz_0.mpr p) z⟩⟩, b2⟩
theorem X101_setNumber (I : VGi K) (Tm : Ty M) (n : fm_is M 101 101 w = true) (V : VGt w M K) {i : Nat} (hi : i < 8) (v : Int64) :
    ∃ M', (HX101_setNumber w (nI i) v M ∧ GX101_setNumber w (nI i) v M = M') ∧ Ty M' ∧ FrWk w M M' ∧ VGt w M' (nmK i v K) := by
  have fr : FrWk w M (fm_sI M 422 w 0 (Int32.ofInt 0)) := frWk_I (frWk_r w M) (by decide)
  have T' : Ty (fm_sI M 422 w 0 (Int32.ofInt 0)) := ⟨Tm.1, tyb_sI rfl Tm.2⟩
  have V' : VGt w (fm_sI M 422 w 0 (Int32.ofInt 0)) K := frWk_V fr (sI_3 (by decide)) rfl V
  have e0 : (fm_sI M 422 w 0 (Int32.ofInt 0)).1 422 w 0 ≤ 0 := by rw [rI, if_pos ⟨rfl, rfl, rfl⟩]; decide
  have n0 : ¬ nI i < 0 := n_nn (by omega)
  have n7 : nI i ≤ Int32.ofInt 7 := (nle (by omega) 7 (by decide)).mpr (by omega)
  have n' : fm_is (fm_sI M 422 w 0 (Int32.ofInt 0)) 101 101 w = true := by exact n
  have inn : fm_in (fm_sI M 422 w 0 (Int32.ofInt 0)) (M.2.2 428 w 0) (nI i) = true := in_nI (tL_428 Tm.1 n) (by omega) (by decide)
  have has7 : ∀ j, j < 8 → HX101_has w (nI j) (Int32.ofInt 7) (fm_sI M 422 w 0 (Int32.ofInt 0)) ∧ GX101_has w (nI j) (Int32.ofInt 7) (fm_sI M 422 w 0 (Int32.ofInt 0)) = (bz (ib (K.1 j) 7 = true), fm_sI M 422 w 0 (Int32.ofInt 0)) := fun j hj => by
    have h := X101_has n' T' V' hj (nI 7)
    rw [bit_1 (by decide), show (bz (ib (K.1 j) 7 = true) = Int32.ofInt 1) = (ib (K.1 j) 7 = true) from propext bz_i1] at h
    exact h
  have kn : ∀ j, j < 8 → HX101_kind w (nI j) (fm_sI M 422 w 0 (Int32.ofInt 0)) ∧ GX101_kind w (nI j) (fm_sI M 422 w 0 (Int32.ofInt 0)) = (kdR (K.1 j), fm_sI M 422 w 0 (Int32.ofInt 0)) := fun j hj => X101_kind n' T' V' hj
  generalize hN : fm_sI M 422 w 0 (Int32.ofInt 0) = N at *
  have N2 : N.2.2 = M.2.2 := by rw [← hN]; rfl
  have e71 : ∀ (h : Prop), HX101_setNumber_71 w (nI i) v (bz h) N ∧ GX101_setNumber_71 w (nI i) v (bz h) N = fm_sL N 3 (M.2.2 428 w 0) i (fi h (lN (K.2 i)) (lN (ul v % 2 ^ 54))) := fun h => by
    constructor
    · unfold HX101_setNumber_71 HX101_setNumber_97
      dsimp only
      rw [N2]
      exact ⟨fun _ => ⟨inn, trivial⟩, fun _ => ⟨inn, inn, trivial⟩⟩
    · unfold GX101_setNumber_71 GX101_setNumber_97
      dsimp only
      rw [fi_bz, o_cl (by omega), V'.2 i hi, N2, m54]
      by_cases q : h
      · rw [fi_pos q, fi_pos q]
      · rw [fi_neg q, fi_neg q]
  have fin : ∀ (h : Prop), (h ↔ hldP K i) → (HX101_setNumber w (nI i) v M ∧ GX101_setNumber w (nI i) v M = fm_sL N 3 (M.2.2 428 w 0) i (fi h (lN (K.2 i)) (lN (ul v % 2 ^ 54)))) → ∃ M', (HX101_setNumber w (nI i) v M ∧ GX101_setNumber w (nI i) v M = M') ∧ Ty M' ∧ FrWk w M M' ∧ VGt w M' (nmK i v K) := fun h hh k => by
    refine ⟨_, k, ty_eq (M := N) rfl rfl T', frWk_B fr, ?_⟩
    rw [propext hh]
    refine ⟨fun j hj => ?_, fun j hj => ?_⟩
    · rw [nmK_1]
      exact V'.1 j hj
    · show (fm_sL N 3 (M.2.2 428 w 0) i _).2.1 3 (N.2.2 428 w 0) j = _
      rw [N2]
      unfold nmK
      by_cases e : j = i
      · rw [rL, if_pos ⟨rfl, rfl, e⟩]
        by_cases q : hldP K i
        · rw [fi_pos q, fi_pos q, e]
        · rw [fi_neg q, fi_neg q]
          show _ = lN (if j = i then ul v % 2 ^ 54 else K.2 j)
          rw [if_pos e]
      · have := V'.2 j hj
        rw [N2] at this
        rw [rL, if_neg (fun q => e q.2.2), this]
        by_cases q : hldP K i
        · rw [fi_pos q]
        · rw [fi_neg q]
          show _ = lN (if j = i then ul v % 2 ^ 54 else K.2 j)
          rw [if_neg e]
  have a1 : nI i + Int32.ofInt 1 = nI (i + 1) := up_1 (by omega)
  have h7 : Int32.ofInt 7 ≤ nI i ↔ 7 ≤ i := by rw [nge (by omega) 7 (by decide)]; omega
  have G16 : ∀ h, HX101_setNumber_16 w (nI i) v w (Int32.ofInt 0) M ∧ GX101_setNumber_16 w (nI i) v w (Int32.ofInt 0) M = fm_sL N 3 (M.2.2 428 w 0) i (fi h (lN (K.2 i)) (lN (ul v % 2 ^ 54))) →
      HX101_setNumber w (nI i) v M ∧ GX101_setNumber w (nI i) v M = fm_sL N 3 (M.2.2 428 w 0) i (fi h (lN (K.2 i)) (lN (ul v % 2 ^ 54))) := fun h k => by
    refine ⟨⟨fun q => absurd q n0, fun _ => ⟨fun _ => k.1, fun q => absurd n7 q⟩⟩, ?_⟩
    unfold GX101_setNumber GX101_setNumber_0
    rw [fi_neg n0, fi_pos n7]
    exact k.2
  obtain ⟨p1, p2⟩ := has7 i hi
  by_cases q7 : ib (K.1 i) 7 = true
  · obtain ⟨b1, b2⟩ := e71 True
    rw [bz_t trivial] at b1 b2
    refine fin True ⟨fun _ => Or.inl q7, fun _ => trivial⟩ (G16 True ?_)
    unfold HX101_setNumber_16 GX101_setNumber_16 HX101_setNumber_66 GX101_setNumber_66
    dsimp only
    rw [hN, p2]
    dsimp only
    rw [fi_pos e0, fi_bz, fi_pos q7]
    exact ⟨⟨fun _ => ⟨p1, fun z => absurd q7 (bz_0.mp z), fun _ => b1⟩, fun z => absurd e0 z⟩, b2⟩
  · by_cases l7 : 7 ≤ i
    · obtain ⟨b1, b2⟩ := e71 False
      rw [bz_f (fun z => z)] at b1 b2
      refine fin False ⟨fun z => z.elim, fun z => z.elim q7 (fun z => by omega)⟩ (G16 False ?_)
      unfold HX101_setNumber_16 GX101_setNumber_16 HX101_setNumber_70 GX101_setNumber_70
      dsimp only
      rw [hN, p2]
      dsimp only
      rw [fi_pos e0, fi_bz, fi_neg q7, fi_pos (h7.mpr l7)]
      exact ⟨⟨fun _ => ⟨p1, fun _ => ⟨fun _ => b1, fun z => absurd (h7.mpr l7) z⟩, fun z => absurd (bz_0.mpr q7) z⟩, fun z => absurd e0 z⟩, b2⟩
    · obtain ⟨r1, r2⟩ := has7 (i + 1) (by omega)
      obtain ⟨s1, s2⟩ := kn (i + 1) (by omega)
      have l7' : ¬ Int32.ofInt 7 ≤ nI i := fun z => l7 (h7.mp z)
      by_cases p : ib (K.1 (i + 1)) 7 = true
      · by_cases r : kdR (K.1 (i + 1)) = Int32.ofInt 1
        · obtain ⟨b1, b2⟩ := e71 True
          rw [bz_t trivial] at b1 b2
          refine fin True ⟨fun _ => Or.inr ⟨by omega, p, r⟩, fun _ => trivial⟩ (G16 True ?_)
          unfold HX101_setNumber_16 GX101_setNumber_16 HX101_setNumber_70 GX101_setNumber_70 HX101_setNumber_66 GX101_setNumber_66
          dsimp only
          rw [hN, p2]
          dsimp only
          rw [a1, r2]
          dsimp only
          rw [s2]
          dsimp only
          rw [fi_pos e0, fi_bz, fi_bz, fi_neg q7, fi_neg l7', fi_pos p, fi_pos r]
          exact ⟨⟨fun _ => ⟨p1, fun _ => ⟨fun z => absurd z l7', fun _ => ⟨r1, fun z => absurd p (bz_0.mp z), fun _ => ⟨s1, fun _ => b1, fun z => absurd r z⟩⟩⟩, fun z => absurd (bz_0.mpr q7) z⟩, fun z => absurd e0 z⟩, b2⟩
        · obtain ⟨b1, b2⟩ := e71 False
          rw [bz_f (fun z => z)] at b1 b2
          refine fin False ⟨fun z => z.elim, fun z => z.elim q7 (fun z => r z.2.2)⟩ (G16 False ?_)
          unfold HX101_setNumber_16 GX101_setNumber_16 HX101_setNumber_70 GX101_setNumber_70 HX101_setNumber_66 GX101_setNumber_66
          dsimp only
          rw [hN, p2]
          dsimp only
          rw [a1, r2]
          dsimp only
          rw [s2]
          dsimp only
          rw [fi_pos e0, fi_bz, fi_bz, fi_neg q7, fi_neg l7', fi_pos p, fi_neg r]
          exact ⟨⟨fun _ => ⟨p1, fun _ => ⟨fun z => absurd z l7', fun _ => ⟨r1, fun z => absurd p (bz_0.mp z), fun _ => ⟨s1, fun z => absurd z r, fun _ => b1⟩⟩⟩, fun z => absurd (bz_0.mpr q7) z⟩, fun z => absurd e0 z⟩, b2⟩
      · obtain ⟨b1, b2⟩ := e71 False
        rw [bz_f (fun z => z)] at b1 b2
        refine fin False ⟨fun z => z.elim, fun z => z.elim q7 (fun z => p z.2.1)⟩ (G16 False ?_)
        unfold HX101_setNumber_16 GX101_setNumber_16 HX101_setNumber_70 GX101_setNumber_70
        dsimp only
        rw [hN, p2]
        dsimp only
        rw [a1, r2]
        dsimp only
        rw [fi_pos e0, fi_bz, fi_bz, fi_neg q7, fi_neg l7', fi_neg p]
        exact ⟨⟨fun _ => ⟨p1, fun _ => ⟨fun z => absurd z l7', fun _ => ⟨r1, fun _ => b1, fun z => absurd (bz_0.mpr p) z⟩⟩, fun z => absurd (bz_0.mpr q7) z⟩, fun z => absurd e0 z⟩, b2⟩
end Nm
/-- as at first -/
def rgZ : Rg := (fun _ => Int32.ofInt 0, fun _ => 0)
theorem rgZ_i : VGi rgZ := fun i _ => ⟨by show 0 < 2 ^ 54; decide, by show ui (Int32.ofInt 0) < 256; decide⟩
section Rz
variable {w : Nat}
theorem X101_reset_L {K : Rg} : ∀ (d i J : Nat) (M : FM), Ty M → fm_is M 101 101 w = true → VGt w M (mix K.1 rgZ.1 i, fun j => if j < i then 0 else K.2 j) → i + d = 8 → d < J →
    ∃ M', FX101_reset_L2 fN J w (nI i) M = some M' ∧ Ty M' ∧ FrWk w M M' ∧ VGt w M' rgZ := by
  intro d
  induction d with
  | zero =>
    intro i J M Tm n V hi hJ
    obtain ⟨J, rfl⟩ : ∃ x, J = x + 1 := ⟨J - 1, by omega⟩
    have e : i = 8 := by omega
    subst e
    have h8 : Int32.ofInt 8 ≤ nI 8 := Int32.le_refl _
    refine ⟨M, ?_, Tm, frWk_r w M, fun j hj => ?_, fun j hj => ?_⟩
    · show FX101_reset_2 fN (FX101_reset_L2 fN J) w (nI 8) M = _
      rw [(gX101_reset_2 (FX101_reset_L2 fN J) w (nI 8) M Tm n ⟨fun _ => trivial, fun q => absurd h8 q⟩).1]
      unfold GX101_reset_2
      rw [fi_pos h8]
      rfl
    · rw [V.1 j hj]
      exact if_pos hj
    · rw [V.2 j hj]
      show lN (if j < 8 then 0 else K.2 j) = lN 0
      rw [if_pos hj]
  | succ d ih =>
    intro i J M Tm n V hi hJ
    obtain ⟨J, rfl⟩ : ∃ x, J = x + 1 := ⟨J - 1, by omega⟩
    have h8 : ¬ Int32.ofInt 8 ≤ nI i := fun q => by have := (nge (by omega) 8 (by decide)).mp q; omega
    have n1 : fm_is M 901 901 (M.2.2 427 w 0) = true := tN_427 Tm.1 n
    have T' : Ty (fm_sL (fm_sI M 3 (M.2.2 427 w 0) i (Int32.ofInt 0)) 3 (M.2.2 428 w 0) i (Int64.ofInt 0)) := ty_eq (M := fm_sI M 3 (M.2.2 427 w 0) i (Int32.ofInt 0)) rfl rfl ⟨Tm.1, tyb_s3 (t := 901) rfl Tm.2 n1⟩
    obtain ⟨X, x1, x2, x3, x4⟩ := ih (i + 1) J _ T' (by exact n) ⟨fun j hj => by
      show (fm_sI M 3 (M.2.2 427 w 0) i (Int32.ofInt 0)).1 3 (M.2.2 427 w 0) j = mix K.1 rgZ.1 (i + 1) j
      by_cases e : j = i
      · rw [rI, if_pos ⟨rfl, rfl, e⟩, e]
        exact (if_pos (by omega)).symm
      · rw [rI, if_neg (fun q => e q.2.2), V.1 j hj]
        show mix K.1 rgZ.1 i j = mix K.1 rgZ.1 (i + 1) j
        unfold mix
        by_cases q : j < i
        · rw [if_pos q, if_pos (by omega)]
        · rw [if_neg q, if_neg (by omega)], fun j hj => by
      show (fm_sL (fm_sI M 3 (M.2.2 427 w 0) i (Int32.ofInt 0)) 3 (M.2.2 428 w 0) i (Int64.ofInt 0)).2.1 3 (M.2.2 428 w 0) j = lN (if j < i + 1 then 0 else K.2 j)
      by_cases e : j = i
      · rw [rL, if_pos ⟨rfl, rfl, e⟩, if_pos (by omega)]
        rfl
      · rw [rL, if_neg (fun q => e q.2.2)]
        refine (V.2 j hj).trans ?_
        show lN (if j < i then 0 else K.2 j) = _
        by_cases q : j < i
        · rw [if_pos q, if_pos (by omega)]
        · rw [if_neg q, if_neg (by omega)]⟩ (by omega) (by omega)
    refine ⟨X, ?_, x2, frWk_t (frWk_B (frWk_A (frWk_r w M))) x3, x4⟩
    show FX101_reset_2 fN (FX101_reset_L2 fN J) w (nI i) M = _
    rw [(gX101_reset_2 (FX101_reset_L2 fN J) w (nI i) M Tm n ⟨fun q => absurd q h8, fun _ => ⟨in_nI (tL_427 Tm.1 n) (by omega) (by decide), in_nI (tL_428 Tm.1 n) (by omega) (by decide), trivial⟩⟩).1]
    unfold GX101_reset_2
    dsimp only
    rw [fi_neg h8, o_cl (by omega), up_1 (by omega)]
    exact x1
theorem X101_reset {K : Rg} {M : FM} (Tm : Ty M) (n : fm_is M 101 101 w = true) (V : VGt w M K) : ∃ M', (HX101_reset w M ∧ GX101_reset w M = M') ∧ Ty M' ∧ FrWk w M M' ∧ VGt w M' rgZ := by
  have G0 := (gX101_reset_0 (FX101_reset_L2 fN fN) w M Tm).1
  obtain ⟨M', e, t', f', v'⟩ := X101_reset_L (K := K) 8 0 fN M Tm n ⟨V.1, V.2⟩ rfl (by decide)
  exact ⟨M', op_of (o := FX101_reset fN w M) (G0.trans e) ⟨t', frWk_ext f'⟩, t', f', v'⟩
end Rz
