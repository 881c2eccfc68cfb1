/-! fields -/
def fs_fld (E : FE) (t : Nat) (O name desc : String) (fid kind : Nat) (fin : Bool) : Prop :=
  ∃ (q : vw_C) (k : Nat), E.2.2.2.2.1[t]? = some q ∧ k < q.2.2 ∧ q.2.1 k = (O, name, desc, fin) ∧ E.2.2.2.2.2.1 t k = (fid, kind) ∧ ∀ j, j < q.2.2 → (E.2.2.2.2.2.1 t j).1 = fid → j = k
theorem fs_ff {u U : State} (hvm : u.vm.Alike U.vm) {C n d : String} {cf fi : Nat} {kf : Class} {f : Field} (h : u.fieldFound? C n d = some (cf, kf, fi, f)) : ∃ kf', U.fieldFound? C n d = some (cf, kf', fi, f) ∧ True := by
  obtain ⟨kf', hi', -⟩ := State.fieldFound?_setVm (s := u) hvm h
  exact ⟨kf', by simpa only [State.fieldFound?, State.vm_setVm] using hi', trivial⟩
theorem fs_lay_w {C : String} {T : u_T} {N : Nat} {w : Cond} (h : w ∈ u_ws C T N) : (w.onTables && w.keeps) = true ∨ ∃ ty, w = .arrayClass ty := by
  obtain ⟨k, -, rfl⟩ := List.mem_map.mp h
  unfold u_lay
  split <;> exact Or.inl rfl
theorem fs_words {E : FE} (hE : fs_good E) {s : State} (hw : E.1.WarmedH s.vm) {t : Nat} {q : vw_C} (ht : E.2.2.2.2.1[t]? = some q) (hwr : E.2.2.2.2.2.2.2 t = true) (A : Array Value) : ∀ w ∈ u_ws q.1 q.2.1 q.2.2, w.before A s = true :=
  fun w h => word_at hw (fs_lay_w h) ((hE.2.2.2.2 t q ht).2.1 hwr w h)
theorem fs_K {E : FE} (hE : fs_good E) {s : State} (hw : E.1.WarmedH s.vm) : va_K E.2.2.2.1 E.2.2.2.2.1 [] s :=
  ⟨fun t q ht => u_Kn_moved hw.alike (hE.2.2.2.2 t q ht).1, fun k q h => by cases h⟩
theorem fs_obj {E : FE} {M : FM} {H : Heap} (hR : fs_Rel E M H) {lo hi a : Nat} (hlo : 0 < lo) (hhi : hi < 900) (h : fm_is M lo hi a = true) :
    ∃ t : Nat, lo ≤ t ∧ t ≤ hi ∧ M.2.2 0 a 0 = t ∧ a ≠ 0 ∧ ∃ q : vw_C, E.2.2.2.2.1[t]? = some q ∧ t_OB (fs_ra E a) (E.2.2.2.1.1 t) q.2.2 (E.2.2.2.1.2 t) H (fun k => fs_fv E M a (E.2.2.2.2.2.1 t k)) := by
  obtain ⟨h1, h2⟩ := fm_is_d h
  obtain ⟨hn, -, hc⟩ := hR.2.2.1 a (by omega)
  unfold fs_cell at hc
  rw [if_pos (by omega)] at hc
  obtain ⟨q, c1, c2, -⟩ := hc
  exact ⟨_, h1, h2, rfl, hn, q, c1, c2⟩
/-- strings are of bytes -/
theorem fs_str0 {E : FE} {M : FM} {H : Heap} (hR : fs_Rel E M H) {a : Nat} (h : fm_is M 7 7 a = true) (hw : E.2.2.2.2.2.2.2 7 = false) : M.1 16 a 0 = 0 := by
  obtain ⟨h1, h2⟩ := fm_is_d h
  obtain ⟨hn, -, hc⟩ := hR.2.2.1 a (by omega)
  rw [show M.2.2 0 a 0 = 7 by omega] at hc
  unfold fs_cell at hc
  rw [if_pos (by decide)] at hc
  obtain ⟨q, c1, c2, c3⟩ := hc
  exact c3 hw rfl
section FsF
variable {E : FE} {p : Program} {l : Launch} {e : Env} {R : Room} {s : State} {m : MethodId} {args : Array Value} {below : List Frame} {meth : Method} {c : Code} {nL NF SF N0 S0 : Nat} {Q : State → Prop} {cc : ByteArray} {own : String} {ret : Option FieldType} {S : FS}
theorem fs_getf {pc n idx : Nat} {ref O name desc : String} (C : fs_C E p R s m args meth c cc own nL ret NF SF N0 S0) (hd : decode cc pc = .ok (.getfield idx, 3))
    (hlk : (Cond.fieldLink own idx ref name desc).before args s = true ∨ ∃ host, (Cond.fieldLinkNest own idx ref name desc host).before args s = true)
    (hsame : ∀ x, s.fieldFound? O name desc = some x → s.fieldFound? ref name desc = some x) (hlo : 0 < n / 4096 % 1024) (hhi : n / 4 % 1024 < 900)
    (hf : ∀ t, n / 4096 % 1024 ≤ t → t ≤ n / 4 % 1024 → ∃ fin, fs_fld E t O name desc (n / 4194304) (n % 4) fin) :
    fs_Snd S own cc ret nL E p l e R s m args below meth c NF SF N0 S0 Q pc (pc + 3) (.getfield n) := by
  obtain ⟨hx, hb, hml, hown, hwm, hlk0, hr, hRR, hE⟩ := C
  intro Rt go kr r L st M h hgo hret
  change fe_get go n (pc + 3) L st M = some r at h
  unfold fe_get at h
  simp only [fi_if] at h
  simp only [fe_bif] at h
  split at h
  · rename_i a st'
    split at h
    · rename_i hq
      have key : ∀ (H : Heap) (ls : Array Slot) (locs : List Loc) (cells slots : Nat), fs_Rel E M H → W p l e R s m args below meth c H locs cells slots Q (F0 m (pc + 3) ls (fs_fv E M a (n / 4194304, n % 4) :: st'.map (fs_tr E))) → W p l e R s m args below meth c H locs cells slots Q (F0 m pc ls ((.ref a :: st').map (fs_tr E))) := by
        intro H ls locs cells slots hR kk
        obtain ⟨t, t1, t2, t3, t4, q, hq1, hob⟩ := fs_obj hR hlo hhi hq
        obtain ⟨fin, q', k, e1, e2, e3, e4, -⟩ := hf t t1 t2
        obtain rfl : q' = q := Option.some.inj (e1.symm.trans hq1)
        obtain ⟨CC, T, N⟩ := q'
        rw [fs_map_ref (fs_rv_ne t4)]
        have hT : T k = (O, name, desc, fin) := e3
        obtain ⟨cell, q1, q2, q3, q4⟩ := hob
        have hK := fs_K (s := s) hE hwm
        obtain ⟨hS, hfc, kC, hkC, hkind⟩ := hK.1 t _ hq1
        obtain ⟨cf, kf, fi, f, hi, hsl⟩ := hS k e2
        have hst : f.isStatic = false := by
          obtain ⟨hS0, -⟩ := (hE.2.2.2.2 t _ hq1).1
          obtain ⟨cf0, kf0, fi0, f0, hi0, -⟩ := hS0 k e2
          have h0 := (hE.2.2.2.2 t _ hq1).2.2.2.1 k e2 _ hi0
          have h1 : s.fieldFound? (T k).1 (T k).2.1 (T k).2.2.1 = some (cf, kf, fi, f) := hi
          have h2 : E.1.fieldFound? (T k).1 (T k).2.1 (T k).2.2.1 = some (cf0, kf0, fi0, f0) := hi0
          obtain ⟨k1, g1, -⟩ := fs_ff hwm.alike h2
          rw [g1] at h1
          simp only [Option.some.injEq, Prod.mk.injEq] at h1
          rw [← h1.2.2.2]
          exact h0
        have hi : s.fieldFound? (T k).1 (T k).2.1 (T k).2.2.1 = some (cf, kf, fi, f) := hi
        rw [hT] at hi
        have hv : cell.slots[f.slot]? = some (fs_fv E M a (n / 4194304, n % 4)) := by
          rw [hsl, q4 k e2]
          show some (fs_fv E M a (E.2.2.2.2.2.1 t k)) = _
          rw [e4]
        have hkn : cell.vm ≠ .unknown := by rw [q3]; exact fun h => by cases h
        rcases hlk with hlk | ⟨host, hlk⟩
        · exact W.getf hx hb hown hlk (hsame _ hi) hst q1 hkn hv rfl rfl hd kk
        · exact va_Wgetf hx hb hown hlk (hsame _ hi) hst q1 hkn hv rfl rfl hd kk
      by_cases k1 : n % 4 = 1
      · rw [if_pos k1] at h
        exact fs_rel (hgo _ _ _ _ h) (fun H ls locs cells slots hR _ kk => key H ls locs cells slots hR (by unfold fs_fv; rw [if_pos k1]; exact kk))
      · rw [if_neg k1] at h
        by_cases k2 : n % 4 = 2
        · rw [if_pos k2] at h
          exact fs_rel (hgo _ _ _ _ h) (fun H ls locs cells slots hR _ kk => key H ls locs cells slots hR (by unfold fs_fv; rw [if_neg k1, if_pos k2]; exact kk))
        · rw [if_neg k2] at h
          exact fs_rel (hgo _ _ _ _ h) (fun H ls locs cells slots hR _ kk => key H ls locs cells slots hR (by unfold fs_fv; rw [if_neg k1, if_neg k2]; exact kk))
    · cases h
  · cases h
/-- one field of an object of the memory is written -/
theorem fs_putc {pc n idx : Nat} {ref O name desc : String} {fin : Bool} {ty : FieldType} (C : fs_C E p R s m args meth c cc own nL ret NF SF N0 S0) (hd : decode cc pc = .ok (.putfield idx, 3))
    (hlk : (fin = false ∧ ((Cond.fieldLink own idx ref name desc).before args s = true ∨ ∃ host, (Cond.fieldLinkNest own idx ref name desc host).before args s = true)) ∨ (fin = true ∧ (Cond.fieldLink own idx ref name desc).before args s = true ∧ meth.name = "<init>" ∧ O = own))
    (hsame : ∀ x, s.fieldFound? O name desc = some x → s.fieldFound? ref name desc = some x) (hlo : 0 < n / 4096 % 1024) (hhi : n / 4 % 1024 < 900) (hty : parseFieldDescriptor desc = some ty)
    (hf : ∀ t, n / 4096 % 1024 ≤ t → t ≤ n / 4 % 1024 → E.2.2.2.2.2.2.2 t = true ∧ fs_fld E t O name desc (n / 4194304) (n % 4) fin)
    {M M' : FM} {H : Heap} {ls : Array Slot} {locs : List Loc} {cells slots a : Nat} {v : Value} {st' : List Value} (hR : fs_Rel E M H) (hq : fm_is M (n / 4096 % 1024) (n / 4 % 1024) a = true)
    (hn : narrow ty v = v) (hfit : fits ty v = true) (h1 : ∀ f b i : Nat, b ≠ a → M'.1 f b i = M.1 f b i ∧ M'.2.1 f b i = M.2.1 f b i ∧ M'.2.2 f b i = M.2.2 f b i) (h0 : M'.2.2 0 a 0 = M.2.2 0 a 0)
    (hv : fs_fv E M' a (n / 4194304, n % 4) = v) (ho : ∀ q : Nat × Nat, q.1 ≠ n / 4194304 → fs_fv E M' a q = fs_fv E M a q)
    (kk : ∀ (H' : Heap) (a i : Nat), fs_Rel E M' H' → E.2.1.size ≤ a → W p l e R s m args below meth c H' (locs ++ [⟨a, i⟩]) cells slots Q (F0 m (pc + 3) ls st')) : W p l e R s m args below meth c H locs cells slots Q (F0 m pc ls (v :: fs_rv E a :: st')) := by
  obtain ⟨hx, hb, hml, hown, hwm, hlk0, hr, hRR, hE⟩ := C
  obtain ⟨t, t1, t2, t3, t4, q, hq1, hob⟩ := fs_obj hR hlo hhi hq
  obtain ⟨hwr, q', k, e1, e2, e3, e4, e5⟩ := hf t t1 t2
  obtain rfl : q' = q := Option.some.inj (e1.symm.trans hq1)
  obtain ⟨CC, T, N⟩ := q'
  have hT : T k = (O, name, desc, fin) := e3
  rw [fs_rv_ne t4]
  obtain ⟨cell, q1, q2, q3, q4⟩ := hob
  have hts := fs_words hE hwm hq1 hwr args
  obtain ⟨ty0, hty0⟩ := (hE.2.2.2.2 t _ hq1).2.2.1
  have hK := fs_K (s := s) hE hwm
  have hap := va_apart (own := own) hts (fun w hw => hw) ty0 (fun k hk => (hty0 k hk).1) (hE.2.2.2.2 t _ hq1).2.2.2.2 hK hq1
  obtain ⟨hS, hfc, kC, hkC, hkind⟩ := hK.1 t _ hq1
  obtain ⟨cf, kf, fi, f, hi, hsl⟩ := hS k e2
  have hlay := hts _ (u_in_lay e2)
  unfold u_lay at hlay
  have hst := (u_facts hfc hkC (u_lays hts (fun w hw => hw) e2) hi).1
  have hi : s.fieldFound? (T k).1 (T k).2.1 (T k).2.2.1 = some (cf, kf, fi, f) := hi
  have hlay : (if (T k).2.2.2 = true then Cond.laysFinal CC (T k).1 (T k).2.1 (T k).2.2.1 else Cond.lays CC (T k).1 (T k).2.1 (T k).2.2.1).before args s = true := hlay
  rw [hT] at hi hlay
  have fin_ : ∀ H' : Heap, H'[fs_ra E a]? = some (cell.setSlot f.slot v) → H'.size = H.size → (∀ q, q ≠ fs_ra E a → H'[q]? = H[q]?) → fs_Rel E M' H' := by
    intro H' g1 g2 g3
    refine fs_Rel_at hE hR (by omega) (by rw [t3]; exact hwr) h1 h0 g2 g3 ?_
    rw [t3]
    unfold fs_cell
    rw [if_pos (by omega)]
    rw [hsl] at g1
    refine ⟨_, hq1, t_OB.to (V := updV (fun k => fs_fv E M a (E.2.2.2.2.2.1 t k)) k v) ⟨_, g1, q2, q3, t_set q4 hap e2 v⟩ (fun j hj => ?_), fun h => by rw [hwr] at h; cases h⟩
    unfold updV
    split
    · rename_i hjk
      rw [hjk, e4, hv]
    · rename_i hjk
      exact (ho _ (fun q => hjk (e5 j hj q))).symm
  have hnew : E.2.1.size ≤ fs_ra E a := fs_ra_new (fs_wr hR (by rw [t3]; exact hwr))
  rcases hlk with ⟨rfl, hlk⟩ | ⟨rfl, hlk, hin2, hdecl⟩
  · rw [if_neg (by simp)] at hlay
    have h6 := u_store hfc hkC hkind hlay hi hty hn hfit
    rcases hlk with hlk | ⟨host, hlk⟩
    · exact W.putK hx hb (f := f) ⟨hown, hlk, ⟨_, _, _, hsame _ hi⟩, hst⟩ (by rw [q2]; exact h6) q1 q3 (by rw [hsl]; exact k2_hasslot (q4 k e2)) rfl rfl hd (fun H' g1 g2 g3 => kk H' _ _ (fin_ H' g1 g2 g3) hnew)
    · exact va_WputK hx hb (f := f) hown hlk (hsame _ hi) hst (by rw [q2]; exact h6) q1 q3 (by rw [hsl]; exact k2_hasslot (q4 k e2)) rfl rfl hd (fun H' g1 g2 g3 => kk H' _ _ (fin_ H' g1 g2 g3) hnew)
  · rw [if_pos rfl] at hlay
    have hcf : m.cls = cf := by
      obtain ⟨_, _, c', _, _, _, -, -, hf', -, -, -, hown2, -⟩ := Cond.laysFinal_spec hlay
      have e1 : c' = cf := by have := hi.symm.trans hf'; simp at this; exact this.1.symm
      have hown2 : s.vm.findClass O = some c' := hown2
      rw [hdecl] at hown2
      rw [← e1]
      exact Option.some.inj (hown.symm.trans hown2)
    have h6 := u_fits hfc hkC hkind (Or.inr hlay) hi hty hn hfit
    exact W.putFinK hx hb hown hlk (hsame _ hi) hst hcf hin2 (by rw [q2]; exact h6) q1 q3 (by rw [hsl]; exact k2_hasslot (q4 k e2)) rfl rfl hd (fun H' g1 g2 g3 => kk H' _ _ (fin_ H' g1 g2 g3) hnew)
end FsF
