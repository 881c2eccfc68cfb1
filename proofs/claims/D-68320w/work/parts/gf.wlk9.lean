/-! walks: the component translates -/
set_option maxRecDepth 100000
section Fk
variable {t r g k : Nat} {M N : FM} {K : Rg} {F T : Nat → Nat} {rt : Int32} {tb : Int64}
theorem frT_kW (h : FrTW t M N) (n : fm_is M 91 91 t = true) (Tm : Ty M) (W : Wf M) : Wk (fun x => fe_mem [292, 293, 294, 1295] x = true) (fun _ => True) 0 (fm_nx M) M N := by
  refine ⟨⟨frT_wf h n Tm W, fun _ _ _ _ _ _ => trivial, by unfold fm_nx; rw [h.1]; exact Nat.le_refl _, fun _ _ => trivial, fun _ _ => trivial⟩, by unfold fm_nx; rw [h.1]; exact Nat.le_refl _, ⟨fun a _ => by rw [h.1]; exact ⟨rfl, rfl⟩, fun _ z q => nw0 W h.1 z q⟩, fun f a ha hf hs => ?_⟩
  have hs' : ¬ fe_mem [292, 293, 294, 1295] (lcn M f a) = true := fun q => hs q trivial
  have e4 : ∀ x, 4 ≤ x → lcn M x a = x := fun x hx => by unfold lcn; rw [if_neg (by omega)]
  refine ⟨funext fun i => h.2.1 f a i (fun q => hs' ?_), funext fun i => h.2.2 f a i (fun q => hs' ?_), by rw [h.1]⟩
  · rw [q.1, e4 294 (by decide)]; rfl
  · rcases q with ⟨q, _⟩ | ⟨q, q2⟩
    · rcases q with q | q
      · rw [q, e4 292 (by decide)]; rfl
      · rw [q, e4 293 (by decide)]; rfl
    · have n2 := tN_295 Tm.1 n
      rcases sS_295 W n with z | z
      · exact absurd z (wf_n0 W (fm_ist rfl n2))
      · unfold lcn
        rw [if_pos q, q2, z.2]
        rfl
theorem frT_q (h : FrTW t M N) (n : fm_is M 91 91 t = true) (R : RamI r M) : RamQ r M N := ramQ_k (frT_kW h n R.1 R.2.1) (by unfold RFr; decide) (frT_ty h R.1) R
/-- a place of what is kept changes -/
def FrP (k : Nat) (M M' : FM) : Prop := M'.2.2 = M.2.2 ∧ (∀ f b i, ¬ (b = k ∧ 269 ≤ f ∧ f ≤ 277) → M'.1 f b i = M.1 f b i) ∧ ∀ f b i, ¬ ((b = k ∧ 269 ≤ f ∧ f ≤ 277) ∨ (f = 3 ∧ (b = M.2.2 278 k 0 ∨ b = M.2.2 279 k 0))) → M'.2.1 f b i = M.2.1 f b i
theorem frP_r (k : Nat) (M : FM) : FrP k M M := ⟨rfl, fun _ _ _ _ => rfl, fun _ _ _ _ => rfl⟩
theorem frP_t {X : FM} (h : FrP k M N) (q : FrP k N X) : FrP k M X :=
  ⟨q.1.trans h.1, fun f b i z => (q.2.1 f b i z).trans (h.2.1 f b i z), fun f b i z => (q.2.2 f b i (by rw [h.1]; exact z)).trans (h.2.2 f b i z)⟩
theorem frP_wf (h : FrP k M N) (n : fm_is M 88 88 k = true) (Tm : Ty M) (W : Wf M) : Wf N := by
  have hn : M.2.2 0 k 0 ≠ 0 := fm_ist rfl n
  have h8 : M.2.2 0 (M.2.2 278 k 0) 0 ≠ 0 := fm_ist rfl (tN_278 Tm.1 n)
  have h9 : M.2.2 0 (M.2.2 279 k 0) 0 ≠ 0 := fm_ist rfl (tN_279 Tm.1 n)
  refine wf_eq h.1 (fun a f i ha => ⟨h.2.1 f a i (fun q => hn (by rw [← q.1]; exact ha)), h.2.2 f a i (fun q => ?_)⟩) W
  rcases q with q | q
  · exact hn (by rw [← q.1]; exact ha)
  · rcases q.2 with z | z
    · exact h8 (by rw [← z]; exact ha)
    · exact h9 (by rw [← z]; exact ha)
theorem frP_k (h : FrP k M N) (n : fm_is M 88 88 k = true) (Tm : Ty M) (W : Wf M) : Wk (fun x => fe_mem [269, 270, 271, 272, 273, 274, 275, 276, 277, 1278, 1279] x = true) (fun _ => True) 0 (fm_nx M) M N := by
  refine ⟨⟨frP_wf h n Tm W, fun _ _ _ _ _ _ => trivial, by unfold fm_nx; rw [h.1]; exact Nat.le_refl _, fun _ _ => trivial, fun _ _ => trivial⟩, by unfold fm_nx; rw [h.1]; exact Nat.le_refl _, ⟨fun a _ => by rw [h.1]; exact ⟨rfl, rfl⟩, fun _ z q => nw0 W h.1 z q⟩, fun f a ha hf hs => ?_⟩
  have hs' : ¬ fe_mem [269, 270, 271, 272, 273, 274, 275, 276, 277, 1278, 1279] (lcn M f a) = true := fun q => hs q trivial
  have e4 : ∀ x, 269 ≤ x → x ≤ 277 → fe_mem [269, 270, 271, 272, 273, 274, 275, 276, 277, 1278, 1279] (lcn M x a) = true := fun x h1 h2 => by
    unfold lcn
    rw [if_neg (by omega)]
    have : x = 269 ∨ x = 270 ∨ x = 271 ∨ x = 272 ∨ x = 273 ∨ x = 274 ∨ x = 275 ∨ x = 276 ∨ x = 277 := by omega
    rcases this with z | z | z | z | z | z | z | z | z <;> rw [z] <;> rfl
  refine ⟨funext fun i => h.2.1 f a i (fun q => hs' (e4 f q.2.1 q.2.2)), funext fun i => h.2.2 f a i (fun q => hs' ?_), by rw [h.1]⟩
  rcases q with q | ⟨q, q2⟩
  · exact e4 f q.2.1 q.2.2
  · have n8 := tN_278 Tm.1 n
    have n9 := tN_279 Tm.1 n
    unfold lcn
    rw [if_pos q]
    rcases q2 with z | z
    · rcases sS_278 W n with y | y
      · exact absurd y (wf_n0 W (fm_ist rfl n8))
      · rw [z, y.2]; rfl
    · rcases sS_279 W n with y | y
      · exact absurd y (wf_n0 W (fm_ist rfl n9))
      · rw [z, y.2]; rfl
theorem frP_q (h : FrP k M N) (n : fm_is M 88 88 k = true) (TN : Ty N) (R : RamI r M) : RamQ r M N := ramQ_k (frP_k h n R.1 R.2.1) (by unfold RFr; decide) TN R
theorem frP_V (h : FrP k M N) (RN : RamI r N) (V : WtC t r g M K rt tb) : WtC t r g N K rt tb := by
  obtain ⟨R, m2, n, hr, hg, vg, fa, ht, hrt⟩ := V
  refine ⟨RN, by rw [h.2.1 _ _ _ (fun q => by omega)]; exact m2, ?_, by rw [h.1]; exact hr, by rw [h.1]; exact hg, fun i hi => ?_, fun i hi => ?_, ?_, ?_⟩
  · unfold fm_is at *
    rw [h.1]
    exact n
  · obtain ⟨a1, a2, f, t', a3, a4, a5⟩ := vg i hi
    rw [rgn_e h.1, h.2.1 280 _ _ (fun q => by omega), h.2.2 281 _ _ (fun q => by omega), h.2.2 282 _ _ (fun q => by omega), h.2.2 283 _ _ (fun q => by omega)]
    exact ⟨a1, a2, f, t', a3, a4, a5⟩
  · rw [h.1, h.2.1 3 _ _ (fun q => by omega), h.2.1 3 _ _ (fun q => by omega)]
    exact fa i hi
  · rw [h.2.2 289 _ _ (fun q => by omega)]
    exact ht
  · rw [h.2.1 290 _ _ (fun q => by omega)]
    exact hrt
end Fk
/-- the fields of a place of what is kept are laid -/
def ksM (k : Nat) (pg : Int64) (ac md : Int32) (tb : Int64) (rt ver : Int32) (b : Int64) (n : Int32) (X : FM) : FM :=
  fm_sI (fm_sL (fm_sI (fm_sI (fm_sL (fm_sI (fm_sI (fm_sL (fm_sI X 269 k 0 (Int32.ofInt 1)) 270 k 0 pg) 271 k 0 ac) 272 k 0 md) 273 k 0 tb) 274 k 0 rt) 275 k 0 ver) 276 k 0 b) 277 k 0 n
section Ks
variable {k : Nat} {pg : Int64} {ac md : Int32} {tb : Int64} {rt ver : Int32} {b : Int64} {n : Int32} {X : FM}
theorem ks_r : (ksM k pg ac md tb rt ver b n X).1 269 k 0 = Int32.ofInt 1 ∧ (ksM k pg ac md tb rt ver b n X).2.1 270 k 0 = pg ∧ (ksM k pg ac md tb rt ver b n X).1 271 k 0 = ac ∧ (ksM k pg ac md tb rt ver b n X).1 272 k 0 = md ∧ (ksM k pg ac md tb rt ver b n X).2.1 273 k 0 = tb ∧
    (ksM k pg ac md tb rt ver b n X).1 274 k 0 = rt ∧ (ksM k pg ac md tb rt ver b n X).1 275 k 0 = ver ∧ (ksM k pg ac md tb rt ver b n X).2.1 276 k 0 = b ∧ (ksM k pg ac md tb rt ver b n X).1 277 k 0 = n := by
  unfold ksM
  simp (decide := true) only [rI, rL, rI1, rL0, true_and, and_true, and_self, false_and, if_true, if_false]
theorem ks_f : FrP k X (ksM k pg ac md tb rt ver b n X) := by
  refine ⟨rfl, fun f c i z => ?_, fun f c i z => ?_⟩
  · unfold ksM
    simp only [rI, rL0]
    rw [if_neg (fun q => z (by omega)), if_neg (fun q => z (by omega)), if_neg (fun q => z (by omega)), if_neg (fun q => z (by omega)), if_neg (fun q => z (by omega)), if_neg (fun q => z (by omega))]
  · have z' : ¬ (c = k ∧ 269 ≤ f ∧ f ≤ 277) := fun q => z (Or.inl q)
    unfold ksM
    simp only [rL, rI1]
    rw [if_neg (fun q => z' (by omega)), if_neg (fun q => z' (by omega)), if_neg (fun q => z' (by omega))]
end Ks
