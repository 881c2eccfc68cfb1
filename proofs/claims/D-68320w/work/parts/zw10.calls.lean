/-! calls: contracts, links -/
def fs_rm (d : Nat) (M M' : FM) : Room := { frames := d, cells := fm_nx M' - fm_nx M, slots := fm_ns M' - fm_ns M, locals := 64 * d }
def fs_Pc (E : FE) (As : List Value) (M : FM) : Array Value → State → Prop := fun a U => a = (As.map (fs_tr E)).toArray ∧ E.1.WarmedH U.vm ∧ fs_Rel E M U.heap
def fs_Qc (E : FE) (v : Option Value) (M' : FM) : Array Value → State → Outcome → State → Prop := fun _ _ o t => o = .returned (v.map (fs_tr E)) ∧ fs_Rel E M' t.heap
/-- a method's contract at given values and memory -/
def fs_Con (E : FE) (l : Launch) (d : Nat) (y : MethodName) (bytes : ByteArray) (maxL : Nat) (ret : Option FieldType) (As : List Value) (M : FM) (v : Option Value) (M' : FM) : Prop :=
  (fm_nx M ≤ fm_nx M' ∧ fm_ns M ≤ fm_ns M') ∧ Met l y [Cond.code y bytes maxL ret] (fs_rm d M M') (fs_Pc E As M) (fs_Qc E v M') (fm_nx M' - fm_nx M) (fm_ns M' - fm_ns M) (fun q => E.2.1.size ≤ q)
theorem fs_blind (E : FE) (As : List Value) (M : FM) : FrameBlind (fs_Pc E As M) := fun a U g mk h => ⟨h.1, h.2.1, h.2.2⟩
/-- a call's link: whoever knows the contract can pass the call -/
def fs_Lk (E : FE) (p : Program) (l : Launch) (e : Env) (R : Room) (s : State) (m : MethodId) (args : Array Value) (below : List Frame) (meth : Method) (c : Code) (nL : Nat) (Q : State → Prop) (pc nx na lo hi : Nat) (con : List Value → FM → Option Value → FM → Prop) : Prop :=
  ∀ (As rest : List Value) (M M' : FM) (v : Option Value) (H : Heap) (ls : Array Slot) (locs : List Loc) (cells slots : Nat), con As M v M' → As.length = na → fs_Rel E M H → ls.size = nL → (rest.map Value.category).sum ≤ 8 → (0 < lo → ∃ (a : Nat) (t : List Value), As = .ref a :: t ∧ fm_is M lo hi a = true) →
    cells + (fm_nx M' - fm_nx M) ≤ R.cells → slots + (fm_ns M' - fm_ns M) ≤ R.slots →
    (∀ (H' : Heap) (L : List Loc), (∀ q ∈ L, E.2.1.size ≤ q.base) → fs_Rel E M' H' → W p l e R s m args below meth c H' (locs ++ L) (cells + (fm_nx M' - fm_nx M)) (slots + (fm_ns M' - fm_ns M)) Q (F0 m nx ls ((v.map (fs_tr E)).toList ++ rest.map (fs_tr E)))) →
    W p l e R s m args below meth c H locs cells slots Q (F0 m pc ls ((As.map (fs_tr E)).reverse ++ rest.map (fs_tr E)))
/-- what an oracle says at a place is so -/
def fs_OS (S : FS) (i k : Nat) (con : List Value → FM → Option Value → FM → Prop) : Prop :=
  if k = 0 then ∀ As M M', S.1 i As M = some M' → con As M none M'
  else if k = 1 then ∀ As M r, S.2.1 i As M = some r → con As M (some (.int r.1)) r.2
  else if k = 2 then ∀ As M r, S.2.2.1 i As M = some r → con As M (some (.long r.1)) r.2
  else ∀ As M r, S.2.2.2.1 i As M = some r → con As M (some (.ref r.1)) r.2
theorem fs_cats (E : FE) (st : List Value) : ((st.map (fs_tr E)).map fun v => v.category).sum = (st.map Value.category).sum := by
  rw [List.map_map]
  congr 2
  funext v
  exact fs_tr_cat E v
section FsCa
variable {E : FE} {p : Program} {l : Launch} {e : Env} {R : Room} {s : State} {m : MethodId} {args : Array Value} {below : List Frame} {meth : Method} {c : Code} {nL NF SF N0 S0 : Nat} {Q : State → Prop} {cc : ByteArray} {own : String} {ret : Option FieldType} {S : FS}
theorem fs_run {mc ms : Nat} {g : JFrame} {rest : List Value} {H : Heap} {locs : List Loc} {cells slots : Nat} {Qa : State → Outcome → State → Prop} {free : Addr → Prop} (hr : va_Run p l e R s m args below meth c H locs cells slots mc ms g rest Qa free)
    (kk : ∀ (v : Option Value) (st₀ t : State) (L : List Loc), (∀ q ∈ L, free q.base) → Qa st₀ (.returned v) t → W p l e R s m args below meth c t.heap (locs ++ L) (cells + mc) (slots + ms) Q { g with pc := g.pc + 3, stack := v.toList ++ rest }) : W p l e R s m args below meth c H locs cells slots Q g := by
  intro T hT X
  obtain ⟨v, st₀, t, T', L, h0, X', hL, e1, -, hq, st⟩ := hr T hT X
  obtain ⟨t2, a1, b1⟩ := kk v st₀ t L hL hq T' e1 X'
  exact ⟨t2, st t2 a1, b1⟩
theorem fs_run5 {mc ms : Nat} {g : JFrame} {rest : List Value} {H : Heap} {locs : List Loc} {cells slots : Nat} {Qa : State → Outcome → State → Prop} {free : Addr → Prop} (hr : va_Run5 p l e R s m args below meth c H locs cells slots mc ms g rest Qa free)
    (kk : ∀ (v : Option Value) (st₀ t : State) (L : List Loc), (∀ q ∈ L, free q.base) → Qa st₀ (.returned v) t → W p l e R s m args below meth c t.heap (locs ++ L) (cells + mc) (slots + ms) Q { g with pc := g.pc + 5, stack := v.toList ++ rest }) : W p l e R s m args below meth c H locs cells slots Q g := by
  intro T hT X
  obtain ⟨v, st₀, t, T', L, h0, X', hL, e1, -, hq, st⟩ := hr T hT X
  obtain ⟨t2, a1, b1⟩ := kk v st₀ t L hL hq T' e1 X'
  exact ⟨t2, st t2 a1, b1⟩
/-- the step of a call -/
theorem fs_callg {pc nx n lo hi : Nat} {con : List Value → FM → Option Value → FM → Prop} (hRR : R.cells + N0 = NF ∧ R.slots + S0 = SF) (hlk : fs_Lk E p l e R s m args below meth c nL Q pc nx (n / 4 % 16) lo hi con) (hmono : ∀ As M v M', con As M v M' → fm_nx M ≤ fm_nx M' ∧ fm_ns M ≤ fm_ns M')
    (hos : fs_OS S (n / 64) (n % 4) con) {Rt : Type} {go : Nat → fm_L → List Value → FM → Option Rt} {r : Rt} {L : fm_L} {st : List Value} {M : FM} (h : fe_call S go n nx L st M = some r)
    (hrc : 0 < lo → ∀ H, fs_Rel E M H → ∃ (a : Nat) (t : List Value), (st.take (n / 4 % 16)).reverse = .ref a :: t ∧ fm_is M lo hi a = true)
    (hgo : ∀ pc' L' st' M', go pc' L' st' M' = some r → fs_G E p l e R s m args below meth c nL NF SF N0 S0 Q pc' L' st' M') : fs_G E p l e R s m args below meth c nL NF SF N0 S0 Q pc L st M := by
  unfold fe_call at h
  simp only [fe_bif, fe_bif2] at h
  split at h
  · rename_i hq
    have key : ∀ (v : Option Value) (M' : FM), con (st.take (n / 4 % 16)).reverse M v M' → fs_G E p l e R s m args below meth c nL NF SF N0 S0 Q nx L (v.toList ++ st.drop (n / 4 % 16)) M' → fs_G E p l e R s m args below meth c nL NF SF N0 S0 Q pc L st M := by
      intro v M' hc k
      obtain ⟨m1, m2⟩ := hmono _ _ _ _ hc
      obtain ⟨b1, b2⟩ := k.1
      refine ⟨⟨by omega, by omega⟩, fun H ls locs cells slots h1 h2 h3 h4 h5 => ?_⟩
      have e : st.map (fs_tr E) = (((st.take (n / 4 % 16)).reverse).map (fs_tr E)).reverse ++ (st.drop (n / 4 % 16)).map (fs_tr E) := by
        rw [List.map_reverse, List.reverse_reverse, ← List.map_append, List.take_append_drop]
      rw [e]
      refine hlk _ _ M M' v H ls locs cells slots hc ?_ h1 h2.1 hq.2 (fun hl => hrc hl H h1) (by omega) (by omega) (fun H' L' hL' hR' => ?_)
      · rw [List.length_reverse, List.length_take]
        omega
      · have k2 := k.2 H' ls (locs ++ L') (cells + (fm_nx M' - fm_nx M)) (slots + (fm_ns M' - fm_ns M)) hR' h2 (fun q hq => ?_) (by omega) (by omega)
        · rw [List.map_append] at k2
          cases v <;> exact k2
        · rcases List.mem_append.mp hq with hq | hq
          · exact h3 q hq
          · exact hL' q hq
    unfold fs_OS at hos
    split at h
    · rename_i k0
      rw [if_pos k0] at hos
      obtain ⟨M', e1, e2⟩ := Option.bind_eq_some_iff.mp h
      exact key none M' (hos _ _ _ e1) (hgo _ _ _ _ e2)
    · rename_i k0
      rw [if_neg k0] at hos
      split at h
      · rename_i k1
        rw [if_pos k1] at hos
        obtain ⟨x, e1, e2⟩ := Option.bind_eq_some_iff.mp h
        exact key (some (.int x.1)) x.2 (hos _ _ _ e1) (hgo _ _ _ _ e2)
      · rename_i k1
        rw [if_neg k1] at hos
        split at h
        · rename_i k2
          rw [if_pos k2] at hos
          obtain ⟨x, e1, e2⟩ := Option.bind_eq_some_iff.mp h
          exact key (some (.long x.1)) x.2 (hos _ _ _ e1) (hgo _ _ _ _ e2)
        · rename_i k2
          rw [if_neg k2] at hos
          obtain ⟨x, e1, e2⟩ := Option.bind_eq_some_iff.mp h
          exact key (some (.ref x.1)) x.2 (hos _ _ _ e1) (hgo _ _ _ _ e2)
  · cases h
theorem fs_recv {M : FM} {H : Heap} (hR : fs_Rel E M H) {n lo hi : Nat} {st : List Value} (hlo : 0 < lo) (hna : 0 < n / 4 % 16) (h : fm_is M lo hi (fe_recv n st) = true) : ∃ (a : Nat) (t : List Value), (st.take (n / 4 % 16)).reverse = .ref a :: t ∧ fm_is M lo hi a = true := by
  have hne : fe_recv n st ≠ 0 := by
    obtain ⟨h1, h2⟩ := fm_is_d h
    exact (hR.2.2.1 _ (by omega)).1
  unfold fe_recv at h hne
  split at h
  · rename_i a t hd
    refine ⟨a, (st.take (n / 4 % 16 - 1)).reverse, ?_, h⟩
    have e : st.take (n / 4 % 16) = st.take (n / 4 % 16 - 1) ++ [.ref a] := by
      have e1 : n / 4 % 16 = (n / 4 % 16 - 1) + 1 := by omega
      have e2 : st[n / 4 % 16 - 1]? = some (.ref a) := by
        have := congrArg (fun l => l[0]?) hd
        simpa using this
      rw [e1, List.take_add_one, Nat.add_sub_cancel, e2]
      rfl
    rw [e, List.reverse_append]
    rfl
  · rename_i hn
    split at hne
    · rename_i a t hd
      exact absurd hd (hn a t)
    · exact absurd rfl hne
theorem fs_inv_static {pc n : Nat} {con : List Value → FM → Option Value → FM → Prop} (C : fs_C E p R s m args meth c cc own nL ret NF SF N0 S0) (hlk : fs_Lk E p l e R s m args below meth c nL Q pc (pc + 3) (n / 4 % 16) 0 0 con) (hmono : ∀ As M v M', con As M v M' → fm_nx M ≤ fm_nx M' ∧ fm_ns M ≤ fm_ns M') (hos : fs_OS S (n / 64) (n % 4) con) :
    fs_Snd S own cc ret nL E p l e R s m args below meth c NF SF N0 S0 Q pc (pc + 3) (.invokestatic n) :=
  fun Rt go kr r L st M h hgo hret => fs_callg C.2.2.2.2.2.2.2.1 hlk hmono hos h (fun h => absurd h (by decide)) hgo
theorem fs_inv_virtual {pc n : Nat} {con : List Value → FM → Option Value → FM → Prop} (C : fs_C E p R s m args meth c cc own nL ret NF SF N0 S0) (hlo : 0 < n / 1024 % 1024) (hna : 0 < n / 1048576 / 4 % 16) (hlk : fs_Lk E p l e R s m args below meth c nL Q pc (pc + 3) (n / 1048576 / 4 % 16) (n / 1024 % 1024) (n % 1024) con) (hmono : ∀ As M v M', con As M v M' → fm_nx M ≤ fm_nx M' ∧ fm_ns M ≤ fm_ns M') (hos : fs_OS S (n / 1048576 / 64) (n / 1048576 % 4) con) :
    fs_Snd S own cc ret nL E p l e R s m args below meth c NF SF N0 S0 Q pc (pc + 3) (.invokevirtual n) := by
  intro Rt go kr r L st M h hgo hret
  dsimp only [fx_step, fe_step] at h
  try simp only [fi_if] at h
  split at h
  · rename_i hq
    exact fs_callg C.2.2.2.2.2.2.2.1 hlk hmono hos h (fun _ H hR => fs_recv hR hlo hna hq) hgo
  · cases h
/-- calls by the class: each entry of a table has its own link -/
theorem fs_disp {pc nx : Nat} (hRR : R.cells + N0 = NF ∧ R.slots + S0 = SF) {Rt : Type} {go : Nat → fm_L → List Value → FM → Option Rt} {r : Rt} {L : fm_L} {st : List Value} {M : FM} (hgo : ∀ pc' L' st' M', go pc' L' st' M' = some r → fs_G E p l e R s m args below meth c nL NF SF N0 S0 Q pc' L' st' M') :
    ∀ t : List (Nat × Nat × Nat), (∀ x ∈ t, 0 < x.1 ∧ 0 < x.2.2 / 4 % 16 ∧ ∃ con, fs_Lk E p l e R s m args below meth c nL Q pc nx (x.2.2 / 4 % 16) x.1 x.2.1 con ∧ (∀ As M v M', con As M v M' → fm_nx M ≤ fm_nx M' ∧ fm_ns M ≤ fm_ns M') ∧ fs_OS S (x.2.2 / 64) (x.2.2 % 4) con) → fe_disp S go nx L st M t = some r → fs_G E p l e R s m args below meth c nL NF SF N0 S0 Q pc L st M := by
  intro t
  induction t with
  | nil => intro _ h; cases h
  | cons x t ih =>
    intro hx h
    obtain ⟨lo, hi, n⟩ := x
    unfold fe_disp at h
    simp only [fi_if] at h
    split at h
    · rename_i hq
      obtain ⟨h1, h2, con, h3, h4, h5⟩ := hx _ List.mem_cons_self
      exact fs_callg hRR h3 h4 h5 h (fun _ H hR => fs_recv hR h1 h2 hq) hgo
    · exact ih (fun y hy => hx y (List.mem_cons_of_mem _ hy)) h
theorem fs_inv_table {pc nx i k : Nat} (C : fs_C E p R s m args meth c cc own nL ret NF SF N0 S0) {t : List (Nat × Nat × Nat)} (ht : S.2.2.2.2[i]? = some t) (hx : ∀ x ∈ t, 0 < x.1 ∧ 0 < x.2.2 / 4 % 16 ∧ ∃ con, fs_Lk E p l e R s m args below meth c nL Q pc nx (x.2.2 / 4 % 16) x.1 x.2.1 con ∧ (∀ As M v M', con As M v M' → fm_nx M ≤ fm_nx M' ∧ fm_ns M ≤ fm_ns M') ∧ fs_OS S (x.2.2 / 64) (x.2.2 % 4) con) :
    fs_Snd S own cc ret nL E p l e R s m args below meth c NF SF N0 S0 Q pc nx (.invokeinterface i k) := by
  intro Rt go kr r L st M h hgo hret
  dsimp only [fx_step, fe_step] at h
  try simp only [fi_if] at h
  rw [ht] at h
  exact fs_disp C.2.2.2.2.2.2.2.1 hgo t hx h
end FsCa
