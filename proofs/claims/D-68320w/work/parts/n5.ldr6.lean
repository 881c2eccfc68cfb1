/-! images: both sides load -/
set_option maxRecDepth 100000
section Ll
variable {l m r c n t many : Nat} {Mc Mt : FM} {X : Nat → Nat}
theorem psF_0 {X : Nat → Nat} {n t : Nat} : ∀ m k, psF X n t k m = 0 → ∀ i, k ≤ i → i < k + m → ptF X n t i = 0
  | 0, k, _, i, h1, h2 => by omega
  | m + 1, k, h, i, h1, h2 => by
    have h : fi (ptF X n t k = 0) (psF X n t (k + 1) m) (ptF X n t k) = 0 := h
    by_cases q : ptF X n t k = 0
    · rw [fi_pos q] at h
      by_cases e : i = k
      · rw [e]; exact q
      · exact psF_0 m (k + 1) h i (by omega) (by omega)
    · rw [fi_neg q] at h
      exact absurd h q
theorem sgF_0 {X : Nat → Nat} {n t k : Nat} (h : sgF X n t k = 0) : fitP (nmV X (t + 56 * k + 8) 8) (nmV X (t + 56 * k + 32) 8) n ∧ nmV X (t + 56 * k + 32) 8 ≤ nmV X (t + 56 * k + 40) 8 ∧ (nmV X (t + 56 * k + 40) 8 = 0 ∨ inR (lN (nmV X (t + 56 * k + 24) 8)) (nmV X (t + 56 * k + 40) 8)) := by
  unfold sgF at h
  by_cases c1 : ¬ fitP (nmV X (t + 56 * k + 8) 8) (nmV X (t + 56 * k + 32) 8) n ∨ nmV X (t + 56 * k + 40) 8 < nmV X (t + 56 * k + 32) 8
  · rw [fi_pos c1] at h
    cases h
  · rw [fi_neg c1] at h
    by_cases c2 : nmV X (t + 56 * k + 40) 8 ≠ 0 ∧ ¬ inR (lN (nmV X (t + 56 * k + 24) 8)) (nmV X (t + 56 * k + 40) 8)
    · rw [fi_pos c2] at h
      cases h
    · refine ⟨?_, ?_, ?_⟩
      · by_cases q : fitP (nmV X (t + 56 * k + 8) 8) (nmV X (t + 56 * k + 32) 8) n
        · exact q
        · exact absurd (Or.inl q) c1
      · by_cases q : nmV X (t + 56 * k + 40) 8 < nmV X (t + 56 * k + 32) 8
        · exact absurd (Or.inr q) c1
        · omega
      · by_cases q : nmV X (t + 56 * k + 40) 8 = 0
        · exact Or.inl q
        · by_cases q2 : inR (lN (nmV X (t + 56 * k + 24) 8)) (nmV X (t + 56 * k + 40) 8)
          · exact Or.inr q2
          · exact absurd ⟨q, q2⟩ c2
/-- one part, both sides -/
theorem ld_1 {k : Nat} (R : RelLd l m r c Mc Mt X n) (hk : k < many) (hm : many ≤ 16) (ht : t + 56 * many ≤ n) (h0 : ptF X n t k = 0) :
    ∃ Nc Nt st, st ≤ 4194306 ∧ (∀ j, FX90_load_L33 fN (j + 1) l (nI 0) (lN t) (nI many) (nI k) Mc = FX90_load_L33 fN j l (nI 0) (lN t) (nI many) (nI (k + 1)) Nc) ∧
      (∀ j, (FX92_loadImage_L fN (j + st)).1 m (nI t) (nI many) (nI (t + 56 * k)) Mt = (FX92_loadImage_L fN j).1 m (nI t) (nI many) (nI (t + 56 * (k + 1))) Nt) ∧ RelLd l m r c Nc Nt X n ∧ Evo r 8388608 Mc Nc ∧ Ext Mc Nc ∧ Ext Mt Nt := by
  have hn : n ≤ 65536 := R.2.1.2.2.2.1.2
  have hb := R.2.1.2.2.2.1.1
  have Vc := R.2.1
  have Vt := R.2.2.2.1
  have c1 : ¬ nI many ≤ nI k := fun z => by
    have := (n_le (by omega) (by omega)).mp z
    omega
  have eP : nI t + Int32.ofInt 56 * nI many = nI (t + 56 * many) := by rw [show Int32.ofInt 56 = nI 56 from rfl, nI_m, nI_a]
  have d1 : ¬ nI t + Int32.ofInt 56 * nI many ≤ nI (t + 56 * k) := fun z => by
    rw [eP] at z
    have := (n_le (by omega) (by omega)).mp z
    omega
  have eK : nI k + Int32.ofInt 1 = nI (k + 1) := nI_a (n := 1)
  have eA := ad_k (t := t) (k := k) (by omega) (by omega)
  have e56 : nI (t + 56 * k) + Int32.ofInt 56 = nI (t + 56 * (k + 1)) := by
    rw [show Int32.ofInt 56 = nI 56 from rfl, nI_a]
    congr 1
  obtain ⟨p1, g1⟩ := X90_isS (t := t) (k := k) Vc (by omega) (by omega)
  -- the twin's numbers
  obtain ⟨a0, b0⟩ := tu Vt (a := t + 56 * k) (s := 4) (by decide) (by omega)
  obtain ⟨a1, b1⟩ := tu Vt (a := t + 56 * k + 8) (s := 8) (by decide) (by omega)
  obtain ⟨a2, b2⟩ := tu Vt (a := t + 56 * k + 24) (s := 8) (by decide) (by omega)
  obtain ⟨a3, b3⟩ := tu Vt (a := t + 56 * k + 32) (s := 8) (by decide) (by omega)
  obtain ⟨a4, b4⟩ := tu Vt (a := t + 56 * k + 40) (s := 8) (by decide) (by omega)
  rw [← nI_a (k := t + 56 * k) (n := 8)] at a1 b1
  rw [← nI_a (k := t + 56 * k) (n := 24)] at a2 b2
  rw [← nI_a (k := t + 56 * k) (n := 32)] at a3 b3
  rw [← nI_a (k := t + 56 * k) (n := 40)] at a4 b4
  have b0 : GX92_number m (nI (t + 56 * k)) (Int32.ofInt 4) Mt = _ := b0
  have b1 : GX92_number m (nI (t + 56 * k) + Int32.ofInt 8) (Int32.ofInt 8) Mt = _ := b1
  have b2 : GX92_number m (nI (t + 56 * k) + Int32.ofInt 24) (Int32.ofInt 8) Mt = _ := b2
  have b3 : GX92_number m (nI (t + 56 * k) + Int32.ofInt 32) (Int32.ofInt 8) Mt = _ := b3
  have b4 : GX92_number m (nI (t + 56 * k) + Int32.ofInt 40) (Int32.ofInt 8) Mt = _ := b4
  have cs : lg_cmp (lN (nmV X (t + 56 * k) 4)) (Int64.ofInt 1) = 0 ↔ nmV X (t + 56 * k) 4 = 1 := lgE (by have := nm_4 hb (t + 56 * k); omega) (by decide)
  have HT : HX92_loadImage_33 m (nI t) (nI many) (nI (t + 56 * k)) Mt := by
    unfold HX92_loadImage_33
    dsimp only
    rw [b1]
    dsimp only
    rw [b2]
    dsimp only
    rw [b3]
    dsimp only
    rw [b0]
    exact ⟨fun z => absurd z d1, fun _ => ⟨a1, a2, a3, a0, fun _ => ⟨a4, trivial⟩, fun _ => trivial⟩⟩
  have FT : ∀ j, (FX92_loadImage_L fN (j + 1)).1 m (nI t) (nI many) (nI (t + 56 * k)) Mt = kX92_loadImage (FX92_loadImage_L fN j).1 (FX92_loadImage_L fN j).2 (GX92_loadImage_33 m (nI t) (nI many) (nI (t + 56 * k)) Mt) := fun j => (gX92_loadImage_33 (FX92_loadImage_L fN j).1 (FX92_loadImage_L fN j).2 m (nI t) (nI many) (nI (t + 56 * k)) Mt Vt.1 Vt.2.1.1 HT).1
  by_cases h : isS X (t + 56 * k)
  · have hs : sgF X n t k = 0 := by
      unfold ptF at h0
      rw [fi_pos h] at h0
      exact h0
    obtain ⟨s1, s2, s3⟩ := sgF_0 hs
    have s1' : nmV X (t + 56 * k + 8) 8 + nmV X (t + 56 * k + 32) 8 ≤ n := s1
    have szb : nmV X (t + 56 * k + 40) 8 ≤ 4194304 := by
      rcases s3 with z | z
      · omega
      · unfold inR at z; omega
    have o8 : (lN (nmV X (t + 56 * k + 8) 8)).toInt32 = nI (nmV X (t + 56 * k + 8) 8) := o_32 (by omega)
    obtain ⟨Nc, Nt, q1, q2, q3, q4, q5, q6⟩ := sg_all (b2 := nI t) (b3 := nI many) (p := nI (t + 56 * k)) (a := lN (nmV X (t + 56 * k + 24) 8)) R s3 s2 s1'
    obtain ⟨n1, m1⟩ := nu (s := 8) Vc (a1 := (lN t + (Int32.ofInt 56 * nI k).toInt64) + Int64.ofInt 8) (a := t + 56 * k + 8) (by rw [eA]; exact ad_d (by omega) (by decide)) (by decide) (by omega)
    obtain ⟨n2, m2⟩ := nu (s := 8) Vc (a1 := (lN t + (Int32.ofInt 56 * nI k).toInt64) + Int64.ofInt 24) (a := t + 56 * k + 24) (by rw [eA]; exact ad_d (by omega) (by decide)) (by decide) (by omega)
    obtain ⟨n3, m3⟩ := nu (s := 8) Vc (a1 := (lN t + (Int32.ofInt 56 * nI k).toInt64) + Int64.ofInt 32) (a := t + 56 * k + 32) (by rw [eA]; exact ad_d (by omega) (by decide)) (by decide) (by omega)
    obtain ⟨n4, m4⟩ := nu (s := 8) Vc (a1 := (lN t + (Int32.ofInt 56 * nI k).toInt64) + Int64.ofInt 40) (a := t + 56 * k + 40) (by rw [eA]; exact ad_d (by omega) (by decide)) (by decide) (by omega)
    have m1 : GX90_number l ((lN t + (Int32.ofInt 56 * nI k).toInt64) + Int64.ofInt 8) (Int32.ofInt 8) Mc = _ := m1
    have m2 : GX90_number l ((lN t + (Int32.ofInt 56 * nI k).toInt64) + Int64.ofInt 24) (Int32.ofInt 8) Mc = _ := m2
    have m3 : GX90_number l ((lN t + (Int32.ofInt 56 * nI k).toInt64) + Int64.ofInt 32) (Int32.ofInt 8) Mc = _ := m3
    have m4 : GX90_number l ((lN t + (Int32.ofInt 56 * nI k).toInt64) + Int64.ofInt 40) (Int32.ofInt 8) Mc = _ := m4
    have Ap : FX90_put fN l (lN t + (Int32.ofInt 56 * nI k).toInt64) Mc = some Nc := by
      show FX90_put_0 fN (FX90_put_L54 fN fN) l (lN t + (Int32.ofInt 56 * nI k).toInt64) Mc = _
      have H0 : HX90_put_0 l (lN t + (Int32.ofInt 56 * nI k).toInt64) Mc := by
        unfold HX90_put_0
        dsimp only
        rw [m1]
        dsimp only
        rw [m2]
        dsimp only
        rw [m3]
        exact ⟨n1, n2, n3, n4, trivial⟩
      rw [(gX90_put_0 (FX90_put_L54 fN fN) l (lN t + (Int32.ofInt 56 * nI k).toInt64) Mc Vc.1 Vc.2.1 H0).1]
      unfold GX90_put_0
      dsimp only
      rw [m1]
      dsimp only
      rw [m2]
      dsimp only
      rw [m3]
      dsimp only
      rw [m4]
      have g := q1 (fN - nmV X (t + 56 * k + 32) 8 - 1)
      rw [show fN - nmV X (t + 56 * k + 32) 8 - 1 + nmV X (t + 56 * k + 32) 8 + 1 = fN by unfold fN; omega] at g
      exact g
    obtain ⟨p2, g2⟩ := op_of (d := Mc) Ap (P := OkV Mc) ⟨q3.1.1.1, q5⟩
    have g2 : GX90_put l (lN t + (Int32.ofInt 56 * nI k).toInt64) Mc = Nc := g2
    refine ⟨Nc, Nt, nmV X (t + 56 * k + 40) 8 + 2, by omega, fun j => ?_, fun j => ?_, q3, q4, q5, q6⟩
    · have H : HX90_load_33 l (nI 0) (lN t) (nI many) (nI k) Mc := by
        unfold HX90_load_33
        dsimp only
        rw [g1]
        exact ⟨fun z => absurd z c1, fun _ => ⟨p1, fun _ => trivial, fun _ => ⟨p2, trivial⟩⟩⟩
      show FX90_load_33 fN (FX90_load_L33 fN j) l (nI 0) (lN t) (nI many) (nI k) Mc = _
      rw [(gX90_load_33 (FX90_load_L33 fN j) l (nI 0) (lN t) (nI many) (nI k) Mc Vc.1 Vc.2.1 H).1]
      unfold GX90_load_33 GX90_load_62
      dsimp only
      rw [fi_neg c1, g1]
      dsimp only
      rw [fi_bz, fi_pos h, g2, eK]
      rfl
    · rw [show j + (nmV X (t + 56 * k + 40) 8 + 2) = (j + 1 + nmV X (t + 56 * k + 40) 8) + 1 by omega, FT]
      unfold GX92_loadImage_33 GX92_loadImage_111
      dsimp only
      rw [fi_neg d1, b1]
      dsimp only
      rw [b2]
      dsimp only
      rw [b3]
      dsimp only
      rw [b0]
      dsimp only
      rw [fi_pos (cs.mpr h), b4]
      dsimp only
      rw [o8, ← e56]
      exact q2 j
  · refine ⟨Mc, Mt, 2, by decide, fun j => ?_, fun j => ?_, R, evo_w (evo_r r 0 Mc) (Nat.zero_le _), ext_r _, ext_r _⟩
    · have H : HX90_load_33 l (nI 0) (lN t) (nI many) (nI k) Mc := by
        unfold HX90_load_33
        dsimp only
        rw [g1]
        exact ⟨fun z => absurd z c1, fun _ => ⟨p1, fun _ => trivial, fun z => absurd (bz_f h) z⟩⟩
      show FX90_load_33 fN (FX90_load_L33 fN j) l (nI 0) (lN t) (nI many) (nI k) Mc = _
      rw [(gX90_load_33 (FX90_load_L33 fN j) l (nI 0) (lN t) (nI many) (nI k) Mc Vc.1 Vc.2.1 H).1]
      unfold GX90_load_33 GX90_load_62
      dsimp only
      rw [fi_neg c1, g1]
      dsimp only
      rw [fi_bz, fi_neg h, eK]
      rfl
    · rw [show j + 2 = (j + 1) + 1 by omega, FT]
      unfold GX92_loadImage_33 GX92_loadImage_111
      dsimp only
      rw [fi_neg d1, b1]
      dsimp only
      rw [b2]
      dsimp only
      rw [b3]
      dsimp only
      rw [b0]
      dsimp only
      rw [fi_neg (fun z => h (cs.mp z)), ← e56]
      have c2 : 0 ≤ lg_cmp (Int64.ofInt 0) (Int64.ofInt 0) := by decide
      show (FX92_loadImage_L fN (j + 1)).2 m (nI t) (nI many) (nI (t + 56 * k)) _ _ _ (Int64.ofInt 0) (Int64.ofInt 0) Mt = _
      show FX92_loadImage_116 fN (FX92_loadImage_L fN j).1 (FX92_loadImage_L fN j).2 m (nI t) (nI many) (nI (t + 56 * k)) _ _ _ (Int64.ofInt 0) (Int64.ofInt 0) Mt = _
      rw [(gX92_loadImage_116 (FX92_loadImage_L fN j).1 (FX92_loadImage_L fN j).2 m (nI t) (nI many) (nI (t + 56 * k)) _ _ _ (Int64.ofInt 0) (Int64.ofInt 0) Mt Vt.1 Vt.2.1.1 ⟨fun _ => trivial, fun z => absurd c2 z⟩).1]
      unfold GX92_loadImage_116
      dsimp only
      rw [fi_pos c2]
      rfl
theorem ld_L (hm : many ≤ 16) (ht : t + 56 * many ≤ n) : ∀ r' k Mc Mt, k + r' = many → RelLd l m r c Mc Mt X n → (∀ i, k ≤ i → i < many → ptF X n t i = 0) →
    ∃ Nc Nt st, st ≤ 4194306 * r' ∧ (∀ j, FX90_load_L33 fN (j + r') l (nI 0) (lN t) (nI many) (nI k) Mc = FX90_load_L33 fN j l (nI 0) (lN t) (nI many) (nI many) Nc) ∧
      (∀ j, (FX92_loadImage_L fN (j + st)).1 m (nI t) (nI many) (nI (t + 56 * k)) Mt = (FX92_loadImage_L fN j).1 m (nI t) (nI many) (nI (t + 56 * many)) Nt) ∧ RelLd l m r c Nc Nt X n ∧ Evo r (8388608 * r') Mc Nc ∧ Ext Mc Nc ∧ Ext Mt Nt := by
  intro r'
  induction r' with
  | zero =>
    intro k Mc Mt hk R _
    rw [show k = many by omega]
    exact ⟨Mc, Mt, 0, by omega, fun _ => rfl, fun _ => rfl, R, evo_r r 0 Mc, ext_r _, ext_r _⟩
  | succ r' ih =>
    intro k Mc Mt hk R h0
    obtain ⟨M1, T1, s1, a1, a2, a3, R1, a5, a6, a7⟩ := ld_1 (t := t) (many := many) (k := k) R (by omega) hm ht (h0 k (Nat.le_refl _) (by omega))
    obtain ⟨Nc, Nt, s2, d1, d2, d3, d4, d5, d6, d7⟩ := ih (k + 1) M1 T1 (by omega) R1 (fun i h1 h2 => h0 i (by omega) h2)
    refine ⟨Nc, Nt, s2 + s1, by omega, fun j => ?_, fun j => ?_, d4, ?_, ext_tr a6 d6, ext_tr a7 d7⟩
    · rw [show j + (r' + 1) = (j + r') + 1 by omega, a2]
      exact d2 j
    · rw [show j + (s2 + s1) = (j + s2) + s1 by omega, a3]
      exact d3 j
    · rw [show 8388608 * (r' + 1) = 8388608 + 8388608 * r' by omega]
      exact evo_t a5 d5
theorem wk_188 {l : Nat} {M : FM} (W : Wf M) (nl : fm_is M 66 66 l = true) (v : Int64) : Wk (fun x => x = 188) (fun _ => True) 0 (fm_nx M) M (fm_sL M 188 l 0 v) :=
  wk_L (wk_r (wi_N W)) rfl nl trivial (Or.inr rfl) (Nat.le_refl _)
theorem wk_313 {m : Nat} {M : FM} (W : Wf M) (nm : fm_is M 92 92 m = true) (v : Int64) : Wk (fun x => x = 313) (fun _ => True) 0 (fm_nx M) M (fm_sL M 313 m 0 v) :=
  wk_L (wk_r (wi_N W)) rfl nm trivial (Or.inr rfl) (Nat.le_refl _)
/-- an image is loaded, or refused by the same number -/
theorem rel_image (R : RelLd l m r c Mc Mt X n) (E : Mc.2.1 188 l 0 = Mt.2.1 313 m 0 ∧ ul (Mc.2.1 188 l 0) % 2 = 0) :
    HX90_load l Mc ∧ HX92_loadImage m Mt ∧ ∃ Nc Nt, GX90_load l Mc = (nI (imF X n), Nc) ∧ GX92_loadImage m Mt = (nI (imF X n), Nt) ∧ RelLd l m r c Nc Nt X n ∧ (Nc.2.1 188 l 0 = Nt.2.1 313 m 0 ∧ ul (Nc.2.1 188 l 0) % 2 = 0) ∧ Evo r 134217728 Mc Nc := by
  have Vc := R.2.1
  have Vt := R.2.2.2.1
  have hb := Vc.2.2.2.1.1
  have hn := Vc.2.2.2.1.2
  obtain ⟨p1, g1⟩ := X90_fault Vc
  obtain ⟨q1, h1⟩ := X92_fault Vt
  have hi : imF X n < 100 := by
    have h9 : imF X n ≤ 8 := by
      unfold imF
      exact fi_le (fi_le (fi_le (fi_le (fi_le (fi_le (by decide) (by decide)) (Nat.le_trans (psF_lt _ _) (by decide))) (by decide)) (by decide)) (by decide)) (by decide)
    omega
  have z1 : nI (imF X n) = 0 ↔ imF X n = 0 := ⟨fun z => nI_j (by omega) (by decide) (b := 0) z, fun z => by rw [z]; rfl⟩
  have z2 := n_z hi
  by_cases h : imF X n = 0
  · -- fit
    have hh := h
    unfold imF at hh
    by_cases k0 : 64 ≤ n
    · rw [fi_pos k0] at hh
      by_cases k1 : nmV X 0 7 = 282584257676671
      · rw [fi_pos k1] at hh
        by_cases k2 : nmV X 16 2 = 2 ∧ nmV X 18 2 = 243 ∧ nmV X 20 4 = 1
        · rw [fi_pos k2] at hh
          by_cases k3 : nmV X 52 2 = 64 ∧ nmV X 54 2 = 56 ∧ (1 ≤ nmV X 56 2 ∧ nmV X 56 2 ≤ 16) ∧ fitP (nmV X 32 8) (56 * nmV X 56 2) n
          · rw [fi_pos k3] at hh
            by_cases k4 : psF X n (nmV X 32 8) 0 (nmV X 56 2) = 0
            · rw [fi_pos k4] at hh
              by_cases k5 : enO X
              · obtain ⟨-, -, ⟨k6, k7⟩, k8⟩ := k3
                have k8' : nmV X 32 8 + 56 * nmV X 56 2 ≤ n := k8
                obtain ⟨Nc, Nt, st, s1, s2, s3, R1, s5, s6, s7⟩ := ld_L (t := nmV X 32 8) k7 k8' (nmV X 56 2) 0 Mc Mt (by omega) R (fun i _ h2 => psF_0 _ 0 k4 i (Nat.zero_le _) (by omega))
                have V1 := R1.2.1
                have V2 := R1.2.2.2.1
                obtain ⟨a2, b2⟩ := nu (s := 8) Vc (a1 := Int64.ofInt 32) (a := 32) rfl (by decide) (by decide)
                obtain ⟨a3, b3⟩ := nu (s := 2) Vc (a1 := Int64.ofInt 56) (a := 56) rfl (by decide) (by decide)
                obtain ⟨a4, b4⟩ := nu (s := 8) V1 (a1 := Int64.ofInt 24) (a := 24) rfl (by decide) (by decide)
                obtain ⟨c2, d2⟩ := tu Vt (a := 32) (s := 8) (by decide) (by decide)
                obtain ⟨c3, d3⟩ := tu Vt (a := 56) (s := 2) (by decide) (by decide)
                obtain ⟨c4, d4⟩ := tu V2 (a := 24) (s := 8) (by decide) (by decide)
                have b2 : GX90_number l (Int64.ofInt 32) (Int32.ofInt 8) Mc = _ := b2
                have b3 : GX90_number l (Int64.ofInt 56) (Int32.ofInt 2) Mc = _ := b3
                have b4 : GX90_number l (Int64.ofInt 24) (Int32.ofInt 8) Nc = _ := b4
                have d2 : GX92_number m (Int32.ofInt 32) (Int32.ofInt 8) Mt = _ := d2
                have d3 : GX92_number m (Int32.ofInt 56) (Int32.ofInt 2) Mt = _ := d3
                have d4 : GX92_number m (Int32.ofInt 24) (Int32.ofInt 8) Nt = _ := d4
                have e2 : (lN (nmV X 56 2)).toInt32 = nI (nmV X 56 2) := o_32 (by omega)
                have e3 : (lN (nmV X 32 8)).toInt32 = nI (nmV X 32 8) := o_32 (by omega)
                have kc := wk_188 R1.1.1.2.1 V1.2.1 (lN (nmV X 24 8))
                have kt_ := wk_313 R1.1.2.1.2.1 V2.2.1.1 (lN (nmV X 24 8))
                have Tc : Ty (fm_sL Nc 188 l 0 (lN (nmV X 24 8))) := ⟨V1.1.1, V1.1.2⟩
                have Tt : Ty (fm_sL Nt 313 m 0 (lN (nmV X 24 8))) := ⟨V2.1.1, V2.1.2⟩
                obtain ⟨f1, f2⟩ := ldV_k kc (by unfold LFr; decide) Tc R1.1.1.2.1 V1
                obtain ⟨f3, f4⟩ := ltV_k kt_ (by unfold MFr; decide) Tt R1.1.2.1.2.1 V2
                have qc := ramQ_k (r := r) kc (by unfold RFr; decide) Tc R1.1.1
                have qt := trQ_k (c := c) kt_ (by unfold TFr; decide) Tt R1.1.2.1
                have Ac : FX90_load fN l Mc = some (nI (imF X n), fm_sL Nc 188 l 0 (lN (nmV X 24 8))) := by
                  show FX90_load_0 fN (FX90_load_L33 fN fN) l Mc = _
                  have H0 : HX90_load_0 l Mc := by
                    unfold HX90_load_0
                    dsimp only
                    rw [g1]
                    dsimp only
                    rw [b2]
                    exact ⟨p1, fun _ => ⟨a2, a3, trivial⟩, fun _ => trivial⟩
                  rw [(gX90_load_0 (FX90_load_L33 fN fN) l Mc Vc.1 Vc.2.1 H0).1]
                  unfold GX90_load_0
                  dsimp only
                  rw [g1]
                  dsimp only
                  rw [fi_pos (z1.mpr h), b2]
                  dsimp only
                  rw [b3]
                  dsimp only
                  rw [e2, h]
                  have g := s2 (fN - nmV X 56 2)
                  rw [show fN - nmV X 56 2 + nmV X 56 2 = fN by unfold fN; omega] at g
                  refine Eq.trans g ?_
                  have c1 : nI (nmV X 56 2) ≤ nI (nmV X 56 2) := (n_le (by omega) (by omega)).mpr (Nat.le_refl _)
                  obtain ⟨j, ej⟩ : ∃ j, fN - nmV X 56 2 = j + 1 := ⟨fN - nmV X 56 2 - 1, by unfold fN; omega⟩
                  rw [ej]
                  show FX90_load_33 fN (FX90_load_L33 fN j) l (nI 0) (lN (nmV X 32 8)) (nI (nmV X 56 2)) (nI (nmV X 56 2)) Nc = _
                  rw [(gX90_load_33 (FX90_load_L33 fN j) l (nI 0) (lN (nmV X 32 8)) (nI (nmV X 56 2)) (nI (nmV X 56 2)) Nc V1.1 V1.2.1 ⟨fun _ => ⟨a4, trivial⟩, fun z => absurd c1 z⟩).1]
                  unfold GX90_load_33 GX90_load_81
                  dsimp only
                  rw [fi_pos c1, b4]
                  rfl
                have At : FX92_loadImage fN m Mt = some (nI (imF X n), fm_sL Nt 313 m 0 (lN (nmV X 24 8))) := by
                  show FX92_loadImage_0 fN (FX92_loadImage_L fN fN).1 (FX92_loadImage_L fN fN).2 m Mt = _
                  have H0 : HX92_loadImage_0 m Mt := by
                    unfold HX92_loadImage_0
                    dsimp only
                    rw [h1]
                    dsimp only
                    rw [d2]
                    exact ⟨q1, fun _ => ⟨c2, c3, trivial⟩, fun _ => trivial⟩
                  rw [(gX92_loadImage_0 (FX92_loadImage_L fN fN).1 (FX92_loadImage_L fN fN).2 m Mt Vt.1 Vt.2.1.1 H0).1]
                  unfold GX92_loadImage_0
                  dsimp only
                  rw [h1]
                  dsimp only
                  rw [fi_pos (z2.mpr h), d2]
                  dsimp only
                  rw [d3]
                  dsimp only
                  rw [e2, e3, h]
                  have g := s3 (fN - st)
                  rw [show fN - st + st = fN by unfold fN; omega] at g
                  refine Eq.trans g ?_
                  have eP : nI (nmV X 32 8) + Int32.ofInt 56 * nI (nmV X 56 2) = nI (nmV X 32 8 + 56 * nmV X 56 2) := by rw [show Int32.ofInt 56 = nI 56 from rfl, nI_m, nI_a]
                  have c1 : nI (nmV X 32 8) + Int32.ofInt 56 * nI (nmV X 56 2) ≤ nI (nmV X 32 8 + 56 * nmV X 56 2) := by
                    rw [eP]
                    exact (n_le (by omega) (by omega)).mpr (Nat.le_refl _)
                  obtain ⟨j, ej⟩ : ∃ j, fN - st = j + 1 := ⟨fN - st - 1, by unfold fN; omega⟩
                  rw [ej]
                  show FX92_loadImage_33 fN (FX92_loadImage_L fN j).1 (FX92_loadImage_L fN j).2 m (nI (nmV X 32 8)) (nI (nmV X 56 2)) (nI (nmV X 32 8 + 56 * nmV X 56 2)) Nt = _
                  rw [(gX92_loadImage_33 (FX92_loadImage_L fN j).1 (FX92_loadImage_L fN j).2 m (nI (nmV X 32 8)) (nI (nmV X 56 2)) (nI (nmV X 32 8 + 56 * nmV X 56 2)) Nt V2.1 V2.2.1.1 ⟨fun _ => ⟨c4, trivial⟩, fun z => absurd c1 z⟩).1]
                  unfold GX92_loadImage_33
                  dsimp only
                  rw [fi_pos c1, d4]
                  rfl
                obtain ⟨x1, x2⟩ := op_of (d := ((0 : Int32), Mc)) Ac (P := OkR Mc) ⟨Tc, ext_tr s6 (fun _ _ => ⟨rfl, rfl⟩)⟩
                obtain ⟨y1, y2⟩ := op_of (d := ((0 : Int32), Mt)) At (P := OkR Mt) ⟨Tt, ext_tr s7 (fun _ _ => ⟨rfl, rfl⟩)⟩
                refine ⟨x1, y1, _, _, x2, y2, ⟨rel_tq (rel_q R1.1 qc) qt, f1, f2.trans R1.2.2.1, f3, f4.trans R1.2.2.2.2⟩, ⟨(if_pos ⟨rfl, rfl, rfl⟩).trans (if_pos ⟨rfl, rfl, rfl⟩).symm, ?_⟩, evo_q' (evo_w s5 (by omega)) qc⟩
                have e9 : (fm_sL Nc 188 l 0 (lN (nmV X 24 8))).2.1 188 l 0 = lN (nmV X 24 8) := if_pos ⟨rfl, rfl, rfl⟩
                rw [e9, lN_m _ (nm_8 hb 24)]
                exact k5.1
              · rw [fi_neg k5] at hh
                cases hh
            · rw [fi_neg k4] at hh
              exact absurd hh k4
          · rw [fi_neg k3] at hh
            cases hh
        · rw [fi_neg k2] at hh
          cases hh
      · rw [fi_neg k1] at hh
        cases hh
    · rw [fi_neg k0] at hh
      cases hh
  · have Ac : FX90_load fN l Mc = some (nI (imF X n), Mc) := by
      show FX90_load_0 fN (FX90_load_L33 fN fN) l Mc = _
      have H0 : HX90_load_0 l Mc := by
        unfold HX90_load_0
        dsimp only
        rw [g1]
        exact ⟨p1, fun z => absurd (z1.mp z) h, fun _ => trivial⟩
      rw [(gX90_load_0 (FX90_load_L33 fN fN) l Mc Vc.1 Vc.2.1 H0).1]
      unfold GX90_load_0 GX90_load_81
      dsimp only
      rw [g1]
      dsimp only
      rw [fi_neg (fun z => h (z1.mp z))]
      rfl
    have At : FX92_loadImage fN m Mt = some (nI (imF X n), Mt) := by
      show FX92_loadImage_0 fN (FX92_loadImage_L fN fN).1 (FX92_loadImage_L fN fN).2 m Mt = _
      have H0 : HX92_loadImage_0 m Mt := by
        unfold HX92_loadImage_0
        dsimp only
        rw [h1]
        exact ⟨q1, fun z => absurd (z2.mp z) h, fun _ => trivial⟩
      rw [(gX92_loadImage_0 (FX92_loadImage_L fN fN).1 (FX92_loadImage_L fN fN).2 m Mt Vt.1 Vt.2.1.1 H0).1]
      unfold GX92_loadImage_0
      dsimp only
      rw [h1]
      dsimp only
      rw [fi_neg (fun z => h (z2.mp z))]
      rfl
    obtain ⟨x1, x2⟩ := op_of (d := ((0 : Int32), Mc)) Ac (P := OkR Mc) ⟨Vc.1, ext_r _⟩
    obtain ⟨y1, y2⟩ := op_of (d := ((0 : Int32), Mt)) At (P := OkR Mt) ⟨Vt.1, ext_r _⟩
    exact ⟨x1, y1, Mc, Mt, x2, y2, R, E, evo_w (evo_r r 0 Mc) (Nat.zero_le _)⟩
end Ll
