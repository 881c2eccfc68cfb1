/-! disks: what is gathered of a request; frames -/
set_option maxRecDepth 100000
/-- only the places of P may change; no references -/
def Frm (P : Nat → Nat → Prop) (M M' : FM) : Prop := M'.2.2 = M.2.2 ∧ ∀ f b i, ¬ P f b → M'.1 f b i = M.1 f b i ∧ M'.2.1 f b i = M.2.1 f b i
section Fm
variable {P : Nat → Nat → Prop} {M N X : FM}
theorem frm_r : Frm P M M := ⟨rfl, fun _ _ _ _ => ⟨rfl, rfl⟩⟩
theorem frm_t (h : Frm P M N) (k : Frm P N X) : Frm P M X := ⟨k.1.trans h.1, fun f b i z => ⟨((k.2 f b i z).1).trans (h.2 f b i z).1, ((k.2 f b i z).2).trans (h.2 f b i z).2⟩⟩
theorem frm_I {f b j : Nat} {v : Int32} (h : Frm P M N) (p : P f b) : Frm P M (fm_sI N f b j v) :=
  ⟨h.1, fun g c i z => ⟨by rw [rI, if_neg (fun q => z (by rw [q.1, q.2.1]; exact p))]; exact (h.2 g c i z).1, (h.2 g c i z).2⟩⟩
theorem frm_L {f b j : Nat} {v : Int64} (h : Frm P M N) (p : P f b) : Frm P M (fm_sL N f b j v) :=
  ⟨h.1, fun g c i z => ⟨(h.2 g c i z).1, by rw [rL, if_neg (fun q => z (by rw [q.1, q.2.1]; exact p))]; exact (h.2 g c i z).2⟩⟩
theorem frm_w {P' : Nat → Nat → Prop} (h : Frm P M N) (k : ∀ f b, P f b → P' f b) : Frm P' M N := ⟨h.1, fun f b i z => h.2 f b i (fun q => z (k f b q))⟩
theorem frm_is (h : Frm P M N) {lo hi a : Nat} (k : fm_is M lo hi a = true) : fm_is N lo hi a = true := by
  unfold fm_is at *
  rw [h.1]
  exact k
theorem frm_ext (h : Frm P M N) : Ext M N := by
  intro b _
  rw [h.1]
  exact ⟨rfl, rfl⟩
theorem frm_wf (h : Frm P M N) (h0 : ∀ f b, P f b → M.2.2 0 b 0 ≠ 0) (W : Wf M) : Wf N :=
  wf_eq h.1 (fun a f i ha => h.2 f a i (fun q => h0 f a q ha)) W
theorem frm_k {S : Nat → Prop} (h : Frm P M N) (h0 : ∀ f b, P f b → M.2.2 0 b 0 ≠ 0) (hS : ∀ f b, P f b → S (lcn M f b)) (W : Wf M) : Wk S (fun _ => True) 0 (fm_nx M) M N := by
  refine ⟨⟨frm_wf h h0 W, fun _ _ _ _ _ _ => trivial, by unfold fm_nx; rw [h.1]; exact Nat.le_refl _, fun _ _ => trivial, fun _ _ => trivial⟩, by unfold fm_nx; rw [h.1]; exact Nat.le_refl _, ⟨fun a _ => by rw [h.1]; exact ⟨rfl, rfl⟩, fun _ z q => nw0 W h.1 z q⟩, fun f a _ _ hs => ?_⟩
  have hn : ¬ P f a := fun q => hs (hS f a q) trivial
  exact ⟨funext fun i => (h.2 f a i hn).1, funext fun i => (h.2 f a i hn).2, by rw [h.1]⟩
/-- types stay where no boolean place changes -/
theorem frm_ty (h : Frm P M N) (hb : ∀ f b, P f b → ty_nb f = true ∨ (f = 3 ∧ ¬ fm_is M 904 904 b = true)) (T : Ty M) : Ty N := by
  refine ⟨by rw [h.1]; exact T.1, fun f hf a i => ?_, fun a i ha => ?_⟩
  · rw [(h.2 f a i (fun q => ?_)).1]
    · exact T.2.1 f hf a i
    · rcases hb f a q with z | z
      · unfold ty_nb at z
        rw [fe_mem_of hf] at z
        cases z
      · rw [z.1] at hf
        exact absurd hf (by decide)
  · have ha' : fm_is M 904 904 a = true := by
      unfold fm_is at *
      rw [h.1] at ha
      exact ha
    rw [(h.2 3 a i (fun q => ?_)).1]
    · exact T.2.2 a i ha'
    · rcases hb 3 a q with z | z
      · exact absurd z (by decide)
      · exact z.2 ha'
end Fm
/-- a block: its address, its length, whether it is open -/
abbrev Blk : Type := Int64 × Int64 × Bool
noncomputable def gB (bl : Int64) (k : Nat) : Int64 := bl + Int64.ofInt 16 * (nI k).toInt64
noncomputable def gMk (nu : Int64 → Nat → Int64) (bl : Int64) (k : Nat) : Int32 := (nu (gB bl k + Int64.ofInt 12) 2).toInt32
noncomputable def gBk (nu : Int64 → Nat → Int64) (bl : Int64) (k : Nat) : Blk := (nu (gB bl k) 8, nu (gB bl k + Int64.ofInt 8) 4, ib (gMk nu bl k) 1)
/-- a block is fit, behind a closed one or an open one -/
def gOk (nu : Int64 → Nat → Int64) (bl : Int64) (k : Nat) (po : Bool) : Prop :=
  ¬ ib (gMk nu bl k) 2 = true ∧ ¬ (po = true ∧ ib (gMk nu bl k) 1 = false) ∧ ((gBk nu bl k).2.1 = 0 ∨ inR (gBk nu bl k).1 (ul (gBk nu bl k).2.1))
noncomputable def gthL (nu : Int64 → Nat → Int64) (size : Nat) (bl : Int64) : Nat → Nat → Bool → Option (List Blk)
  | 0, _, _ => none
  | m + 1, k, po => fi (k < size ∧ inR (gB bl k) 16) (fi (gOk nu bl k po) (fi (ib (gMk nu bl k) 0 = true) ((gthL nu size bl m (ul (nu (gB bl k + Int64.ofInt 14) 2)) (ib (gMk nu bl k) 1)).map (fun l => gBk nu bl k :: l)) (some [gBk nu bl k])) none) none
def lstB (l : List Blk) : Blk := l.getLast?.getD (0, 0, false)
/-- the whole is fit -/
def okG (l : List Blk) : Prop := ((l.getD 0 (0, 0, true)).2.2 = false ∧ 16 ≤ ul (l.getD 0 (0, 0, true)).2.1) ∧ (lstB l).2.2 = true ∧ 0 < ul (lstB l).2.1
theorem gth_n {nu : Int64 → Nat → Int64} {size : Nat} {bl : Int64} : ∀ m k po, gthL nu size bl m k po ≠ some [] := by
  intro m k po
  cases m with
  | zero => exact fun h => (by cases h)
  | succ m =>
    unfold gthL
    by_cases h1 : k < size ∧ inR (gB bl k) 16
    · rw [fi_pos h1]
      by_cases h2 : gOk nu bl k po
      · rw [fi_pos h2]
        by_cases h3 : ib (gMk nu bl k) 0 = true
        · rw [fi_pos h3]
          cases gthL nu size bl m (ul (nu (gB bl k + Int64.ofInt 14) 2)) (ib (gMk nu bl k) 1) with
          | none => exact fun h => (by cases h)
          | some l => exact fun h => (by cases h)
        · rw [fi_neg h3]
          exact fun h => (by cases h)
      · rw [fi_neg h2]
        exact fun h => (by cases h)
    · rw [fi_neg h1]
      exact fun h => (by cases h)
theorem lstB_a (l : List Blk) (x : Blk) : lstB (l ++ [x]) = x := by
  unfold lstB
  rw [List.getLast?_concat]
  rfl
/-- numbers are read alike -/
theorem gth_c {nu nu' : Int64 → Nat → Int64} {size : Nat} {bl : Int64} (h : ∀ a s, s ≤ 8 → inR a s → nu' a s = nu a s) : ∀ m k po, gthL nu' size bl m k po = gthL nu size bl m k po := by
  intro m
  induction m with
  | zero => exact fun _ _ => rfl
  | succ m ih =>
    intro k po
    unfold gthL
    by_cases h1 : k < size ∧ inR (gB bl k) 16
    · have r : ∀ o s : Nat, o + s ≤ 16 → inR (gB bl k + lN o) s := fun o s q => by
        have i := h1.2
        unfold inR at *
        rw [ul_add, l_big (by omega)]
        omega
      have e0 : nu' (gB bl k) 8 = nu (gB bl k) 8 := h _ _ (by decide) (by have i := h1.2; unfold inR at *; omega)
      have e8 : nu' (gB bl k + Int64.ofInt 8) 4 = nu (gB bl k + Int64.ofInt 8) 4 := h _ _ (by decide) (r 8 4 (by decide))
      have e12 : nu' (gB bl k + Int64.ofInt 12) 2 = nu (gB bl k + Int64.ofInt 12) 2 := h _ _ (by decide) (r 12 2 (by decide))
      have e14 : nu' (gB bl k + Int64.ofInt 14) 2 = nu (gB bl k + Int64.ofInt 14) 2 := h _ _ (by decide) (r 14 2 (by decide))
      have em : gMk nu' bl k = gMk nu bl k := by unfold gMk; rw [e12]
      have eb : gBk nu' bl k = gBk nu bl k := by unfold gBk; rw [e0, e8, em]
      have eo : gOk nu' bl k po = gOk nu bl k po := by unfold gOk; rw [em, eb]
      rw [fi_pos h1, fi_pos h1, eo, em, eb, e14, ih]
    · rw [fi_neg h1, fi_neg h1]
section Ot2
variable {M : FM} {a b : Int64}
theorem X19_has {x r : Nat} (hr : M.2.2 222 x 0 = r) (hm : M.1 202 r 0 = Int32.ofInt 1024) (hb : ul b < 1152921504606846976) : GX19_has x a b M = (bz (inR a (ul b)), M) := by
  unfold GX19_has GX19_has_0
  dsimp only
  rw [hr, X11_has hm hb]
theorem X95_isThere (hb : ul b < 9223372036854775808) : GX95_isThere a b M = (bz (b = 0 ∨ inR a (ul b)), M) := by
  unfold GX95_isThere GX95_isThere_0 GX95_isThere_14 GX95_isThere_19
  rw [X93_areBytes hb, lg_cmp_eq]
  dsimp only
  rw [fi_bz]
  by_cases h : b = Int64.ofInt 0
  · rw [fi_pos h, bz_t (show b = 0 ∨ inR a (ul b) from Or.inl h)]
  · rw [fi_neg h]
    have h0 : ul b ≠ 0 := fun q => h (ul_inj q)
    by_cases k : inR a (ul b)
    · have k1 : inR a 1 := by unfold inR at *; omega
      rw [fi_pos ⟨k1, k⟩, bz_t (show b = 0 ∨ inR a (ul b) from Or.inr k)]
    · rw [fi_neg (fun q => k q.2), bz_f (show ¬ (b = 0 ∨ inR a (ul b)) from fun q => q.elim h k)]
end Ot2
