/-! frames by lists of places: one line for each unit -/
set_option maxRecDepth 100000
def dj (L S : List Nat) : Bool := L.all fun x => !(fe_mem S x)
abbrev SL (L : List Nat) : Nat → Prop := fun x => fe_mem L x = true
/-- from M to N only places of L are written (and what is new) -/
abbrev WK (L : List Nat) (M N : FM) : Prop := Wk (SL L) (fun _ => True) 0 (fm_nx M) M N
def uI : List Nat := [10, 147, 148] ++ lI
def uFl : List Nat := [10, 11, 12, 113, 1099, 1100, 1101] ++ lF
def uW : List Nat := [247, 1008] ++ lW
def uD : List Nat := [58, 59, 60, 61, 62, 68, 78, 79, 85, 86, 222, 1062, 15, 16, 1015] ++ lD
def uR : List Nat := [201, 202, 203, 204, 205, 207, 208, 1201, 1203, 1204, 1205]
def uRt : List Nat := [388, 389, 390, 391, 392, 393, 1388, 1389, 1390, 1391, 1392]
section Fs
variable {L S S' : List Nat} {Z : Nat → Prop} {M N Mc Nc Mt Nt X : FM}
theorem mem_fe {l : List Nat} {x : Nat} (h : fe_mem l x = true) : x ∈ l := by
  induction l with
  | nil => cases h
  | cons a t ih =>
    unfold fe_mem at h
    rw [Bool.or_eq_true] at h
    rcases h with h | h
    · rw [Nat.eq_of_beq_eq_true h]
      exact List.mem_cons_self
    · exact List.mem_cons_of_mem _ (ih h)
theorem dj_n (h : dj L S = true) : ∀ x, fe_mem L x = true → ¬ SL S x := fun x hx hs => by
  have := List.all_eq_true.mp h x (mem_fe hx)
  rw [show fe_mem S x = true from hs] at this
  cases this
theorem dj_q (h : dj L S = true) : Qf (SL S) Z (fun _ => True) L := qf_T (dj_n h)
theorem WK_r (W : Wf M) : WK S M M := wk_r (wi_N W)
theorem WK_t (k : WK S M N) (k' : WK S N X) : WK S M X := wk_tt k k'
theorem WK_s (h : S.all (fun x => fe_mem S' x) = true) (k : WK S M N) : WK S' M N := wk_sub (fun x hx => List.all_eq_true.mp h x (mem_fe hx)) k
theorem fe_app {l l' : List Nat} {x : Nat} (h : fe_mem l' x = true) : fe_mem (l ++ l') x = true := fe_mem_of (List.mem_append_right _ (mem_fe h))
theorem fe_apl {l l' : List Nat} {x : Nat} (h : fe_mem l x = true) : fe_mem (l ++ l') x = true := fe_mem_of (List.mem_append_left _ (mem_fe h))
theorem wrI {a c : Nat} {o : Option Wt} (k : WK S Mc Nc) (k' : WK S' Mt Nt) (h : dj uI S = true) (h' : dj lIt S' = true) (T : Ty Mc) (W : Wf Mc) (T' : Ty Mt) (W' : Wf Mt) (R : RelI a c Mc Mt o) : RelI a c Nc Nt o :=
  relI_k k (fun s b hs => dj_q (Z := fun _ => True) (L := uI) h s b (fe_app hs)) ⟨dj_n h 10 rfl, dj_n h 147 rfl, dj_n h 148 rfl⟩ oc_T trivial T W k' (dj_q h') oc_T trivial T' W' R
theorem wrCt {u d : Nat} {kn : Int32} (k : WK S Mc Nc) (k' : WK S' Mt Nt) (h : dj lC S = true) (h' : dj lCt S' = true) (W : Wf Mc) (W' : Wf Mt) (T : Ty Nc) (T' : Ty Nt) (R : RelC u d kn Mc Mt) : RelC u d kn Nc Nt :=
  relC_k k (dj_q h) oc_T trivial W T k' (dj_q h') oc_T trivial W' T' R
theorem wrF {u rg f : Nat} {c : Nat → Nat} {s : Fs} (k : WK S Mc Nc) (k' : WK S' Mt Nt) (h : dj uFl S = true) (h' : dj lFt S' = true) (W : Wf Mc) (W' : Wf Mt) (T : Ty Nc) (T' : Ty Nt) (R : RelF u c rg f Mc Mt s) : RelF u c rg f Nc Nt s := by
  obtain ⟨r1, r2, r3, ⟨y, r4⟩, r5⟩ := R
  obtain ⟨a1, a2⟩ := flU_k (s := s) k (fun s b hs => dj_q (Z := fun _ => True) (L := uFl) h s b (fe_app hs)) oc_T trivial (fun x hx => dj_n h x (fe_apl hx)) W T r1
  obtain ⟨b1, b2⟩ := flO_k (s := sVal y s) k' (dj_q h') oc_T trivial W' T' r2
  exact ⟨a1, b1, a2 r3, ⟨y, b2 r4⟩, r5⟩
theorem wrR {r c : Nat} (k : WK S Mc Nc) (k' : WK S' Mt Nt) (h : dj uR S = true) (h' : dj uRt S' = true) (T : Ty Nc) (T' : Ty Nt) (R : RelRam r c Mc Mt) : RelRam r c Nc Nt ∧ RamQ r Mc Nc ∧ TamQ c Mt Nt := by
  have q := ramQ_k k ⟨dj_n h 201 rfl, dj_n h 202 rfl, dj_n h 203 rfl, dj_n h 204 rfl, dj_n h 205 rfl, dj_n h 207 rfl, dj_n h 208 rfl, dj_n h 1201 rfl, dj_n h 1203 rfl, dj_n h 1204 rfl, dj_n h 1205 rfl⟩ T R.1
  have q' := tamQ_k k' ⟨dj_n h' 388 rfl, dj_n h' 389 rfl, dj_n h' 390 rfl, dj_n h' 391 rfl, dj_n h' 392 rfl, dj_n h' 393 rfl, dj_n h' 1388 rfl, dj_n h' 1389 rfl, dj_n h' 1390 rfl, dj_n h' 1391 rfl, dj_n h' 1392 rfl⟩ T' R.2.1
  exact ⟨rel_tmq (rel_q R q) q', q, q'⟩
/-- the walks: both sides, and what is kept -/
def RelW (t r g w c : Nat) (B Vv : Nat) (K : Rg) (F T : Nat → Nat) (Mc Mt : FM) : Prop :=
  (∃ rt tb, WtC t r g Mc K rt tb) ∧ (∃ rt tb, WtV w c Mt K rt tb) ∧ VGi K ∧ covR K F T ∧ StK t Mc ∧ ∀ j, j < 64 → KeC t r g B Vv Mc K F T j
theorem wrW {t r g w c B Vv e : Nat} {K : Rg} {F T : Nat → Nat} (k : WK S Mc Nc) (k' : WK S' Mt Nt) (h : dj uW S = true) (h' : dj lWt S' = true) (T' : Ty Mt) (W' : Wf Mt) (RN : RamI r Nc) (h202 : Nc.1 202 r 0 = Mc.1 202 r 0) (E : Evo r e Mc Nc)
    (R : RelW t r g w c B Vv K F T Mc Mt) : RelW t r g w c (B + e) Vv K F T Nc Nt := by
  obtain ⟨⟨rt, tb, V⟩, ⟨rt', tb', V'⟩, I, C, St, Ke⟩ := R
  obtain ⟨v1, v2, v3, v4⟩ := wtC_fr k (fun s b hs => dj_q (Z := fun _ => True) (L := uW) h s b (fe_app hs)) oc_T trivial ⟨dj_n h 247 rfl, dj_n h 1008 rfl⟩ RN h202 V
  exact ⟨⟨rt, tb, v1⟩, ⟨rt', tb', wtV_fr k' (dj_q h') oc_T trivial T' W' V'⟩, I, C, v4 St, fun j hj => ke_tr (v3 j hj) v2 E V.1 RN (Ke j hj)⟩
theorem wrG {s m p B : Nat} (k : WK S Mc Nc) (k' : WK S' Mt Nt) (h : dj lG S = true) (h' : dj lGt S' = true) (T : Ty Mc) (W : Wf Mc) (T' : Ty Mt) (W' : Wf Mt) (R : RelG s m p B Mc Mt) : RelG s m p B Nc Nt :=
  relG_k k (dj_n h) T W k' (dj_n h') T' W' R
theorem wrD {d x dk q rq b r c : Nat} (k : WK S Mc Nc) (k' : WK S' Mt Nt) (h : dj uD S = true) (h' : dj lDt S' = true) (RR : RelRam r c Nc Nt) (R : RelD d x dk q rq b r c Mc Mt) : RelD d x dk q rq b r c Nc Nt :=
  relD_k k (fun y hy => dj_n h y (fe_app hy)) ⟨⟨dj_n h 58 rfl, dj_n h 59 rfl, dj_n h 60 rfl, dj_n h 61 rfl, dj_n h 62 rfl, dj_n h 68 rfl, dj_n h 78 rfl, dj_n h 79 rfl, dj_n h 85 rfl, dj_n h 86 rfl, dj_n h 222 rfl, dj_n h 1062 rfl⟩, dj_n h 15 rfl, dj_n h 16 rfl, dj_n h 1015 rfl⟩ k' (dj_n h') RR R
end Fs
