/-! control registers: which interrupt is taken, both sides; small things -/
set_option maxRecDepth 100000
section Tk
variable {u d n x : Nat} {k : Int32} {Mc Mt M : FM}
theorem fsP_o {P : Nat → Prop} {o : Prop} : fsP (fun c => P c ∧ o) = fi o (fsP P) (Int32.ofInt (-1)) := by
  by_cases h : o
  · rw [fi_pos h]
    exact fsP_c (fun c _ => ⟨fun z => z.1, fun z => ⟨z, h⟩⟩)
  · rw [fi_neg h]
    exact fsP_n (fun c _ z => h z.2)
noncomputable def tkn (m : Int32) (x D W : Int64) : Int32 := fi (0 ≤ fi (opn0 m x) (fsP (fun c => lb (W &&& (D ^^^ Int64.ofInt (-1))) c = true)) (Int32.ofInt (-1))) (fi (opn0 m x) (fsP (fun c => lb (W &&& (D ^^^ Int64.ofInt (-1))) c = true)) (Int32.ofInt (-1))) (fi (opn1 m x) (fsP (fun c => lb (W &&& D) c = true)) (Int32.ofInt (-1)))
theorem c_waiting (R : RelC u d k Mc Mt) : GX74_waiting u Mc = ((ht Mt d 836 ||| Mc.2.1 43 (tbl Mc u 836) 0) &&& ht Mt d 772, Mc) := by
  obtain ⟨⟨Tc, nu, S, K⟩, -, v1, -⟩ := R
  obtain ⟨s1, s2, ⟨e27, e28, e29, e30, e31, e34, e35⟩, -⟩ := S
  unfold GX74_waiting GX74_waiting_0
  dsimp only
  rw [e31, show GX79_show (tbl Mc u 836) Mc = (Mc.2.1 41 (tbl Mc u 836) 0 ||| Mc.2.1 43 (tbl Mc u 836) 0, Mc) from rfl]
  dsimp only
  rw [e30, d14s (tg_of s1 rfl), v1_at v1 (cn_of rfl), v1_at v1 (cn_of rfl)]
theorem c_taken (R : RelC u d k Mc Mt) : HX74_taken u Mc ∧ GX74_taken u Mc = (tkn (Mt.1 360 d 0) (ht Mt d 768) (ht Mt d 771) ((ht Mt d 836 ||| Mc.2.1 43 (tbl Mc u 836) 0) &&& ht Mt d 772), Mc) := by
  have hw := c_waiting R
  have hf := c_first R
  obtain ⟨⟨Tc, nu, S, K⟩, -, v1, -, ⟨vm, hm⟩, -⟩ := R
  obtain ⟨s1, s2, ⟨e27, e28, e29, e30, e31, e34, e35⟩, -⟩ := S
  have e768 : Mc.2.1 41 (tbl Mc u 768) 0 = ht Mt d 768 := v1_at v1 cn_768
  have e771 : Mc.2.1 41 (tbl Mc u 771) 0 = ht Mt d 771 := v1_at v1 (cn_of rfl)
  generalize hW : (ht Mt d 836 ||| Mc.2.1 43 (tbl Mc u 836) 0) &&& ht Mt d 772 = W at *
  have c88 : ∀ (D : Int64) (q : Prop) (s : Int32), GX74_taken_88 u D (bz q) s Mc = (fi (0 ≤ s) s (fi q (fsP (fun c => lb (W &&& D) c = true)) s), Mc) := fun D q s => by
    unfold GX74_taken_88 GX74_taken_100 GX74_taken_115
    rw [hw]
    dsimp only
    rw [(hf _).2, fi_bz]
    by_cases h : 0 ≤ s
    · rw [fi_pos h, fi_pos h]
    · rw [fi_neg h, fi_neg h]
      exact fi_fst
  have h88 : ∀ (D : Int64) (q s : Int32), HX74_taken_88 u D q s Mc := fun D q s => by
    refine ⟨fun _ => trivial, fun _ => ⟨fun _ => trivial, fun _ => ?_⟩⟩
    rw [hw]
    exact ⟨(hf _).1, trivial⟩
  have c64 : ∀ (D : Int64) (p q : Prop), GX74_taken_64 u D (bz p) (bz q) Mc = GX74_taken_88 u D (bz q) (fi p (fsP (fun c => lb (W &&& (D ^^^ Int64.ofInt (-1))) c = true)) (Int32.ofInt (-1))) Mc := fun D p q => by
    unfold GX74_taken_64
    rw [hw]
    dsimp only
    rw [(hf _).2, fi_bz]
    by_cases h : p
    · rw [fi_pos h, fi_pos h]
    · rw [fi_neg h, fi_neg h]
  have h64 : ∀ (D : Int64) (p q : Int32), HX74_taken_64 u D p q Mc := fun D p q => by
    refine ⟨fun _ => h88 _ _ _, fun _ => ?_⟩
    rw [hw]
    refine ⟨(hf _).1, ?_⟩
    rw [(hf _).2]
    exact h88 _ _ _
  have c32 : ∀ (D : Int64) (p : Int32), GX74_taken_32 u D p Mc = GX74_taken_64 u D p (bz (opn1 (Mt.1 360 d 0) (ht Mt d 768))) Mc := fun D p => by
    unfold GX74_taken_32 GX74_taken_59 GX74_taken_63
    dsimp only
    rw [X78_has (k := 1) rfl (by decide), e27, e768, vm]
    dsimp only
    rw [fi_bz]
    by_cases h0 : Mt.1 360 d 0 = 0
    · rw [fi_pos h0, bz_t (show opn1 (Mt.1 360 d 0) (ht Mt d 768) from Or.inl h0)]
    · rw [fi_neg h0]
      by_cases h1 : Mt.1 360 d 0 = Int32.ofInt 1
      · rw [fi_pos h1]
        by_cases b : lb (ht Mt d 768) 1 = true
        · rw [fi_pos b, bz_t (show opn1 (Mt.1 360 d 0) (ht Mt d 768) from Or.inr ⟨h1, b⟩)]
        · rw [fi_neg b, bz_f (show ¬ opn1 (Mt.1 360 d 0) (ht Mt d 768) from fun z => z.elim h0 (fun y => b y.2))]
      · rw [fi_neg h1, bz_f (show ¬ opn1 (Mt.1 360 d 0) (ht Mt d 768) from fun z => z.elim h0 (fun y => h1 y.1))]
  have h32 : ∀ (D : Int64) (p : Int32), HX74_taken_32 u D p Mc := fun D p => by
    unfold HX74_taken_32
    dsimp only
    rw [X78_has (k := 1) rfl (by decide)]
    exact ⟨fun _ => h64 _ _ _, fun _ => ⟨fun _ => ⟨fun _ => h64 _ _ _, fun _ => h64 _ _ _⟩, fun _ => h64 _ _ _⟩⟩
  constructor
  · unfold HX74_taken HX74_taken_0
    dsimp only
    rw [e29, d14s (tg_of s1 (n := 771) rfl)]
    dsimp only
    rw [X78_has (k := 3) rfl (by decide)]
    exact ⟨fun _ => ⟨fun _ => h32 _ _, fun _ => h32 _ _⟩, fun _ => h32 _ _⟩
  · have c0 : GX74_taken u Mc = GX74_taken_32 u (ht Mt d 771) (bz (opn0 (Mt.1 360 d 0) (ht Mt d 768))) Mc := by
      unfold GX74_taken GX74_taken_0 GX74_taken_27
      dsimp only
      rw [e29, d14s (tg_of s1 (n := 771) rfl)]
      dsimp only
      rw [X78_has (k := 3) rfl (by decide), e27, e768, e771, vm]
      dsimp only
      rw [fi_bz]
      by_cases h3 : Mt.1 360 d 0 = Int32.ofInt 3
      · rw [fi_pos h3]
        by_cases b : lb (ht Mt d 768) 3 = true
        · rw [fi_pos b, bz_t (show opn0 (Mt.1 360 d 0) (ht Mt d 768) from Or.inr b)]
        · rw [fi_neg b, bz_f (show ¬ opn0 (Mt.1 360 d 0) (ht Mt d 768) from fun z => z.elim (fun y => y h3) b)]
      · rw [fi_neg h3, bz_t (show opn0 (Mt.1 360 d 0) (ht Mt d 768) from Or.inl h3)]
    rw [c0, c32, c64, c88]
    refine Prod.ext ?_ rfl
    dsimp only
    unfold tkn
    generalize hs : fi (opn0 (Mt.1 360 d 0) (ht Mt d 768)) (fsP (fun c => lb (W &&& ((ht Mt d 771) ^^^ Int64.ofInt (-1))) c = true)) (Int32.ofInt (-1)) = s
    by_cases h : 0 ≤ s
    · rw [fi_pos h, fi_pos h]
    · rw [fi_neg h, fi_neg h]
      have es : s = Int32.ofInt (-1) := by
        rw [← hs] at h ⊢
        by_cases o : opn0 (Mt.1 360 d 0) (ht Mt d 768)
        · rw [fi_pos o] at h ⊢
          rcases fsP_r (fun c => lb (W &&& ((ht Mt d 771) ^^^ Int64.ofInt (-1))) c = true) with e | ⟨c, hc, e⟩
          · exact e
          · rw [e] at h
            exact absurd ((nge (n := c) (by omega) 0 (by decide)).mpr (by omega)) h
        · rw [fi_neg o]
      rw [es]
theorem fs0 {W D : Int64} {o o1 : Prop} : fsP (fun c => lb W c = true ∧ (lb D c = true ↔ False) ∧ ((¬ False ∧ o) ∨ (False ∧ o1))) = fi o (fsP (fun c => lb (W &&& (D ^^^ Int64.ofInt (-1))) c = true)) (Int32.ofInt (-1)) := by
  refine Eq.trans (fsP_c (fun c hc => ?_)) fsP_o
  rw [lb_and, lb_xor, lb_m1 c (by omega)]
  cases lb W c <;> cases lb D c <;> simp
theorem fs1 {W D : Int64} {o o1 : Prop} : fsP (fun c => lb W c = true ∧ (lb D c = true ↔ True) ∧ ((¬ True ∧ o) ∨ (True ∧ o1))) = fi o1 (fsP (fun c => lb (W &&& D) c = true)) (Int32.ofInt (-1)) := by
  refine Eq.trans (fsP_c (fun c hc => ?_)) fsP_o
  rw [lb_and]
  cases lb W c <;> cases lb D c <;> simp
theorem t_taken (R : RelC u d k Mc Mt) : HX100_taken d Mt ∧ GX100_taken d Mt = (tkn (Mt.1 360 d 0) (ht Mt d 768) (ht Mt d 771) ((ht Mt d 836 ||| Mc.2.1 43 (tbl Mc u 836) 0) &&& ht Mt d 772), fm_sI Mt 358 d 0 (Int32.ofInt 0)) := by
  have R1 := rel_t358 R (Int32.ofInt 0)
  have hl := (rel_lineBits R1).2
  have hm : mde ((fm_sI Mt 358 d 0 (Int32.ofInt 0)).1 360 d 0) := R1.2.2.2.2.1.2
  have f0 := t_first R1.2.1.1 R1.2.1.2.1 (q := bz False) (fun c hc => t_may hm hl hc False)
  have f1 := t_first R1.2.1.1 R1.2.1.2.1 (q := bz True) (fun c hc => t_may hm hl hc True)
  rw [bz_f (c := False) id] at f0
  rw [bz_t (c := True) trivial] at f1
  rw [fs0] at f0
  rw [fs1] at f1
  constructor
  · refine ⟨f0.1, ?_⟩
    rw [f0.2]
    exact ⟨fun _ => ⟨f1.1, trivial⟩, fun _ => trivial⟩
  · unfold GX100_taken GX100_taken_0 GX100_taken_24
    dsimp only
    rw [f0.2]
    dsimp only
    rw [f1.2]
    dsimp only
    rw [fi_fst]
    refine Prod.ext ?_ rfl
    dsimp only
    unfold tkn
    rw [show ∀ s : Int32, (s < 0) = ¬ (0 ≤ s) from fun s => propext Int32.not_le.symm]
    exact (fi_not (p := ¬ _)).trans (by rw [Classical.not_not]; rfl)
/-- both sides take the same interrupt -/
theorem rel_taken (R : RelC u d k Mc Mt) : HX74_taken u Mc ∧ HX100_taken d Mt ∧ ∃ r, GX74_taken u Mc = (r, Mc) ∧ GX100_taken d Mt = (r, fm_sI Mt 358 d 0 (Int32.ofInt 0)) ∧ RelC u d k Mc (fm_sI Mt 358 d 0 (Int32.ofInt 0)) :=
  ⟨(c_taken R).1, (t_taken R).1, _, (c_taken R).2, (t_taken R).2, rel_t358 R _⟩
end Tk
