/-! floats: what the twin's floats show; writing, telling, comparing -/
set_option maxRecDepth 100000
def VFt (f : Nat) (M : FM) (s : Fs) : Prop := (∀ i, i < 32 → M.2.1 3 (M.2.2 367 f 0) i = s.1 i) ∧ M.1 368 f 0 = s.2.1 ∧ M.1 369 f 0 = nI s.2.2.1 ∧ M.1 371 f 0 = s.2.2.2.1 ∧ M.2.1 370 f 0 = s.2.2.2.2
/-- what a step of the twin's floats may change -/
def FrTF (f : Nat) (M N : FM) : Prop := Ty N ∧ N.2.2 = M.2.2 ∧ (∀ g b i, ¬ scI f M g b → ¬ (b = f ∧ (g = 366 ∨ g = 369)) → N.1 g b i = M.1 g b i) ∧ (∀ g b i, ¬ scL f M g b → ¬ (b = f ∧ g = 370) → ¬ (g = 3 ∧ b = M.2.2 367 f 0) → N.2.1 g b i = M.2.1 g b i)
def PoT (f t d : Nat) (s : Fs) (o : Fo) (H : Prop) (G : Int32 × FM) (M : FM) : Prop := ∃ N, (H ∧ G = ((fAp t d o s).1, N)) ∧ FrTF f M N ∧ VFt f N (fAp t d o s).2
section Tv
variable {M N K : FM} {f t d r fl i j : Nat} {s : Fs} {x : Int64} {X Y : UU} {H H' : Prop} {G G' : Int32 × FM} {o' : Fo}
theorem frT_rF (T : Ty M) : FrTF f M M := ⟨T, rfl, fun _ _ _ _ _ => rfl, fun _ _ _ _ _ _ => rfl⟩
theorem frT_tF (h : FrTF f M N) (k : FrTF f N K) : FrTF f M K := by
  have e1 : ∀ g b, scI f N g b ↔ scI f M g b := fun g b => by unfold scI; rw [h.2.1]
  have e2 : ∀ g b, scL f N g b ↔ scL f M g b := fun g b => by unfold scL; rw [h.2.1]
  exact ⟨k.1, k.2.1.trans h.2.1, fun g b i q r => (k.2.2.1 g b i (fun z => q ((e1 g b).mp z)) r).trans (h.2.2.1 g b i q r), fun g b i q r u => (k.2.2.2 g b i (fun z => q ((e2 g b).mp z)) r (by rw [h.2.1]; exact u)).trans (h.2.2.2 g b i q r u)⟩
theorem frT_f (h : FrF f M N) : FrTF f M N := ⟨h.1, h.2.1, fun g b i q _ => h.2.2.1 g b i q, fun g b i q _ _ => h.2.2.2 g b i q⟩
theorem frT_isF (h : FrTF f M N) {lo hi x : Nat} (n : fm_is M lo hi x = true) : fm_is N lo hi x = true := by
  unfold fm_is at *
  rw [h.2.1]
  exact n
theorem flO_T (o : FlO f M) (h : FrTF f M N) : FlO f N := by
  have k : ∀ g, g ∈ [372, 373, 374, 367] → ∀ i, N.1 3 (M.2.2 g f 0) i = M.1 3 (M.2.2 g f 0) i := fun g hg i => h.2.2.1 3 _ i (fl_c o hg rfl).1 (fun q => absurd q.2 (by decide))
  obtain ⟨_, a2, a3, a4, a5, a6⟩ := o
  refine ⟨h.1, frT_isF h a2, ?_, ?_, ?_, ?_⟩
  · rw [h.2.1]
    exact a3
  · rw [h.2.1, k 372 (by decide), k 372 (by decide)]
    exact a4
  · rw [h.2.1, k 373 (by decide), k 373 (by decide)]
    exact a5
  · rw [h.2.1, k 374 (by decide), k 374 (by decide)]
    exact a6
theorem fi_or1 {a : Int32} (h : a = 0 ∨ a = 1) : fi (fl = 0) a (Int32.ofInt 1) = a ||| bz (fl ≠ 0) := by
  by_cases q : fl = 0
  · rw [fi_pos q, bz_f (c := fl ≠ 0) (fun z => z q)]
    exact (or_n0 a).symm
  · rw [fi_neg q, bz_t q]
    rcases h with e | e <;> rw [e] <;> decide
/-- the view after a step inside -/
theorem vFt_r (o : FlO f M) (v : VFt f M s) (h : Rs f fl M N) : VFt f N (sFl fl s) := by
  obtain ⟨v1, v2, v3, v4, v5⟩ := v
  obtain ⟨⟨h1, h2, h3, h4⟩, h5, h6⟩ := h
  refine ⟨fun i hi => ?_, ?_, ?_, ?_, ?_⟩
  · rw [h2, h4 3 _ i (fl_c o (g := 367) (by decide) rfl).2]
    exact v1 i hi
  · rw [h5, v2]
    rfl
  · rw [h3 369 f 0 (fun z => by unfold scI at z; omega)]
    exact v3
  · rw [h6, fi_or1 (o.1.2.1 371 (by decide) f 0), v4]
    rfl
  · rw [h4 370 f 0 (fun z => by unfold scL at z; omega)]
    exact v5
theorem po_th (h : PoT f t d s o' H G M) (k : H → H') (e : G' = G) : PoT f t d s o' H' G' M := by
  obtain ⟨N, a, r⟩ := h
  exact ⟨N, ⟨k a.1, e.trans a.2⟩, r⟩
theorem po_tn (h : H ∧ G = (Int32.ofInt (-1), M)) (v : VFt f M s) (T : Ty M) : PoT f t d s none H G M := ⟨M, h, frT_rF T, v⟩
/-- after a step inside -/
theorem po_tf (q : FrTF f M K) (h : PoT f t d s o' H G K) : PoT f t d s o' H G M := by
  obtain ⟨N, a, r, z⟩ := h
  exact ⟨N, a, frT_tF q r, z⟩
theorem X99_write (o : FlO f M) (v : VFt f M s) (ht : t ≤ 1) (hd : d < 32) (b : Int64) : HX99_write f (nI d) b (nI t) M ∧ ∃ N, GX99_write f (nI d) b (nI t) M = (Int32.ofInt 0, N) ∧ FrTF f M N ∧ VFt f N (sPut d (bx t b) s) := by
  obtain ⟨v1, v2, v3, v4, v5⟩ := v
  have i0 : fm_in M (M.2.2 367 f 0) (nI d) = true := in_nI (tL_367 o.1.1 o.2.1) (by omega) (by decide)
  have K20 : ∀ b, HX99_write_20 f (M.2.2 367 f 0) (nI d) b M ∧ ∃ N, GX99_write_20 f (M.2.2 367 f 0) (nI d) b M = (Int32.ofInt 0, N) ∧ FrTF f M N ∧ VFt f N (sPut d b s) := fun b => by
    refine ⟨⟨i0, trivial⟩, fm_sI (fm_sL M 3 (M.2.2 367 f 0) d b) 371 f 0 (Int32.ofInt 1), ?_, ⟨⟨o.1.1, tyb_sIb (by rfl) o.1.2 (Or.inr rfl)⟩, rfl, fun g c i q _ => oI (fun z => q (Or.inl ⟨z.2.1, by omega⟩)), fun g c i _ _ q => oL (fun z => q ⟨z.1, z.2.1⟩)⟩, fun i hi => ?_, ?_, ?_, ?_, ?_⟩
    · unfold GX99_write_20
      dsimp only
      rw [o_cl (by omega)]
    · have e0 : ∀ x, (fm_sI (fm_sL M 3 (M.2.2 367 f 0) d b) 371 f 0 (Int32.ofInt 1)).2.1 3 (M.2.2 367 f 0) x = if x = d then b else M.2.1 3 (M.2.2 367 f 0) x := fun x => by
        by_cases q : x = d
        · rw [if_pos q, q]
          exact sL_at _ _ _ _ _
        · rw [if_neg q]
          exact oL (fun z => q z.2.2)
      refine (e0 i).trans ?_
      show (if i = d then b else M.2.1 3 (M.2.2 367 f 0) i) = if i = d then b else s.1 i
      rw [v1 i hi]
    · exact (oI (fun z => by omega)).trans v2
    · exact (oI (fun z => by omega)).trans v3
    · exact sI_at _ _ _ _ _
    · exact (oL (M := M) (fun z => by omega)).trans v5
  unfold HX99_write HX99_write_0 GX99_write GX99_write_0 bx
  rcases (show t = 0 ∨ t = 1 by omega) with e | e <;> subst e
  · obtain ⟨h, r⟩ := K20 (b ||| Int64.ofInt (-4294967296))
    rw [fi_neg (show ¬ nI 0 = Int32.ofInt 1 by decide), if_neg (by decide)]
    exact ⟨⟨fun y => absurd y (by decide), fun _ => h⟩, r⟩
  · obtain ⟨h, r⟩ := K20 b
    rw [fi_pos (show nI 1 = Int32.ofInt 1 from rfl), if_pos rfl]
    exact ⟨⟨fun _ => h, fun y => absurd rfl y⟩, r⟩
theorem X99_tell (o : FlO f M) (v : VFt f M s) (x : Int64) : ∃ N, GX99_tell f x M = (Int32.ofInt 1, N) ∧ FrTF f M N ∧ VFt f N (sVal x s) := by
  obtain ⟨v1, v2, v3, v4, v5⟩ := v
  exact ⟨fm_sL M 370 f 0 x, rfl, ⟨ty_eq rfl rfl o.1, rfl, fun _ _ _ _ _ => rfl, fun g c i _ q _ => oL (fun z => q ⟨z.2.1, z.1⟩)⟩, fun i hi => (oL (fun z => by omega)).trans (v1 i hi), v2, v3, v4, sL_at _ _ _ _ _⟩
/-- bits put, flags raised -/
theorem po_tw (o : FlO f K) (v : VFt f K (sFl fl s)) (q : FrTF f M K) (ht : t ≤ 1) (hd : d < 32) (b : Int64) : ∃ N, (HX99_write f (nI d) b (nI t) K ∧ GX99_write f (nI d) b (nI t) K = (Int32.ofInt 0, N)) ∧ FrTF f M N ∧ VFt f N (fAp t d (some (fl, .inl b)) s).2 := by
  obtain ⟨h, N, e, r, z⟩ := X99_write o v ht hd b
  exact ⟨N, ⟨h, e⟩, frT_tF q r, z⟩
theorem po_tg (o : FlO f K) (v : VFt f K (sFl fl s)) (q : FrTF f M K) (x : Int64) : ∃ N, GX99_tell f x K = (Int32.ofInt 1, N) ∧ FrTF f M N ∧ VFt f N (fAp t d (some (fl, .inr x)) s).2 := by
  obtain ⟨N, e, r, z⟩ := X99_tell o v x
  exact ⟨N, e, frT_tF q r, z⟩
/-- X and Y in order, zeros by their signs or not -/
noncomputable def ordT (bs : Prop) (X Y : UU) : Int := fi (X.1 = 0 ∧ Y.1 = 0 ∧ bs) ((if Y.2.1 = true then 1 else 0) - (if X.2.1 = true then 1 else 0)) (ordU X Y)
theorem mgL (ht : t ≤ 1) (hx : t = 0 → ul x < 4294967296) : x &&& lN (2 ^ fS t - 1) = lN (mg t x) := by
  refine ul_inj ?_
  have := p2F ht
  have p63 : 2 ^ fS t ≤ 9223372036854775808 := by rcases (p2F ht).1 with y | y <;> rw [y.2.2.2.1] <;> decide
  have := Nat.mod_lt (ul x) (Nat.two_pow_pos (fS t))
  unfold mg
  rw [ul_and, l_big (by omega), Nat.and_two_pow_sub_one_eq_mod, l_big (by omega)]
theorem mg_lt (ht : t ≤ 1) (x : Int64) : mg t x < 9223372036854775808 := by
  have p63 : 2 ^ fS t ≤ 9223372036854775808 := by rcases (p2F ht).1 with y | y <;> rw [y.2.2.2.1] <;> decide
  have := Nat.mod_lt (ul x) (Nat.two_pow_pos (fS t))
  unfold mg
  omega
theorem sgL {sg : Bool} {m : Nat} (h : m < 9223372036854775808) : (fi (sg = true) (Int64.ofInt 0 - lN m) (lN m)).toInt = sgI sg m := by
  unfold sgI
  have e := tl_b (n := m) (by omega)
  cases sg
  · rw [fi_neg (by decide), e, if_neg (by decide)]
  · rw [fi_pos rfl, if_pos rfl]
    have e2 : Int64.ofInt 0 - lN m = -lN m := by
      apply ul_inj
      rw [ul_sub, ul_neg]
      rfl
    rw [tl, e2, ul_neg, l_big (by omega)]
    split <;> omega
end Tv
