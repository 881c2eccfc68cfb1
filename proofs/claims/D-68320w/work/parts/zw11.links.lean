/-! links of every kind of call -/
section FsL
variable {E : FE} {p : Program} {l : Launch} {e : Env} {R : Room} {s : State} {m : MethodId} {args : Array Value} {below : List Frame} {meth : Method} {c : Code} {nL NF SF N0 S0 : Nat} {Q : State → Prop} {cc : ByteArray} {own : String} {ret : Option FieldType} {S : FS} {y x : MethodName} {bytes : ByteArray} {maxL d : Nat} {rt : Option FieldType} {pc idx na lo hi : Nat}
theorem fs_ws1 (hcode : (Cond.code y bytes maxL rt).before args s = true) : ∀ w ∈ [Cond.code y bytes maxL rt], ∀ (a' : Array Value) (U : State), s.WarmedH U.vm → w.before a' U = true := by
  intro w hw a' U hW
  rw [List.mem_singleton.mp hw]
  exact word_at hW (Or.inl rfl) hcode
theorem fs_room (ls : Array Slot) (st rest : List Value) (h : (rest.map Value.category).sum ≤ 8) : 2 * (F0 m pc ls st).monitorRoom + ((rest.map (fs_tr E)).map fun v => v.category).sum ≤ 8 := by
  rw [fs_cats]
  show 2 * 0 + _ ≤ 8
  omega
theorem fs_pars {n : Nat} {ds : String} (h : (parseMethodDescriptor ds).map (fun d => d.parameters.length) = some n) : ∀ sig, parseMethodDescriptor ds = some sig → n = sig.parameters.length := by
  intro sig hs
  rw [hs] at h
  exact (Option.some.inj h).symm
theorem fs_fin {v v0 : Option Value} {M' : FM} {a : Array Value} {st0 t : State} (h : fs_Qc E v M' a st0 (.returned v0) t) : v0 = v.map (fs_tr E) ∧ fs_Rel E M' t.heap := by
  obtain ⟨h1, h2⟩ := h
  cases h1
  exact ⟨rfl, h2⟩
theorem fs_lk_static (C : fs_C E p R s m args meth c cc own nL ret NF SF N0 S0) (hd : decode cc pc = .ok (.invokestatic idx, 3)) (hcode : (Cond.code y bytes maxL rt).before args s = true) (hini : (Cond.initialized y.cls).before args s = true) (hst : (Cond.static y).before args s = true)
    (hl : (Cond.methodLink own idx y).before args s = true ∨ ∃ host, (Cond.methodLinkNest own idx y host).before args s = true) (hy : y.cls ≠ "java/lang/invoke/MethodHandle" ∧ y.cls ≠ "java/lang/invoke/VarHandle") (hps : (parseMethodDescriptor y.desc).map (fun d => d.parameters.length) = some na)
    (hfr : d + 1 ≤ R.frames) (hlo : 8 + (maxL + 11) + 64 * d ≤ R.locals) : fs_Lk E p l e R s m args below meth c nL Q pc (pc + 3) na 0 0 (fs_Con E l d y bytes maxL rt) := by
  obtain ⟨hx, hb, hml, hown, hwm, hlk0, hr, hRR, hE⟩ := C
  intro As rest M M' v H ls locs cells slots hc hlen hR hls hcat hrecv hcells hslots kk
  obtain ⟨hm, hM⟩ := hc
  have hpre : PreS s H (fs_Pc E As M) (As.map (fs_tr E)) := ⟨fs_blind E As M, fun U hU hW => ⟨rfl, hwm.trans hW, by rw [hU]; exact hR⟩⟩
  rcases hl with hl | ⟨host, hl⟩
  · refine fs_run (va_runS (Ts := []) (n := na) (nL := nL) (rest := rest.map (fs_tr E)) (g := F0 m pc ls _) ⟨hx, hb, hml, hown, fun w h => by cases h⟩ hM ⟨⟨rfl, rfl, hfr, hlo, fs_ws1 hcode, List.mem_singleton_self _, hcode, hini, hy, fs_pars hps, hl⟩, hst⟩ hpre rfl (by rw [List.length_map]; exact hlen) hls rfl (fs_room ls _ rest hcat) hd ⟨hcells, hslots⟩) (fun v0 st0 t L hL hq => ?_)
    obtain ⟨rfl, hR'⟩ := fs_fin hq
    exact kk _ L hL hR'
  · refine fs_run (va_runSN (Ts := []) (n := na) (nL := nL) (rest := rest.map (fs_tr E)) (g := F0 m pc ls _) ⟨hx, hb, hml, hown, fun w h => by cases h⟩ hM ⟨⟨⟨rfl, rfl, hfr, hlo, fs_ws1 hcode, List.mem_singleton_self _⟩, hcode, hini, hy, fs_pars hps, hl⟩, hst, trivial⟩ hpre rfl (by rw [List.length_map]; exact hlen) hls rfl (fs_room ls _ rest hcat) hd ⟨hcells, hslots⟩) (fun v0 st0 t L hL hq => ?_)
    obtain ⟨rfl, hR'⟩ := fs_fin hq
    exact kk _ L hL hR'
/-- calls with a receiver, by how they run -/
theorem fs_lk_recv (C : fs_C E p R s m args meth c cc own nL ret NF SF N0 S0) (h0 : 0 < lo) (h9 : hi < 900)
    (hrun : ∀ (t : Nat) (q : vw_C) (As rest : List Value) (b : Addr) (H : Heap) (ls : Array Slot) (locs : List Loc) (cells slots : Nat) (M M' : FM) (v : Option Value) (A0 : List Value), lo ≤ t → t ≤ hi → E.2.2.2.2.1[t]? = some q →
      Met l y [Cond.code y bytes maxL rt] (fs_rm d M M') (fs_Pc E A0 M) (fs_Qc E v M') (fm_nx M' - fm_nx M) (fm_ns M' - fm_ns M) (fun q => E.2.1.size ≤ q) → PreV s H q.1 b (fs_Pc E A0 M) As → As.length + 1 = na → ls.size = nL → (rest.map fun v => v.category).sum ≤ 8 →
      cells + (fm_nx M' - fm_nx M) ≤ R.cells → slots + (fm_ns M' - fm_ns M) ≤ R.slots → va_Run p l e R s m args below meth c H locs cells slots (fm_nx M' - fm_nx M) (fm_ns M' - fm_ns M) (F0 m pc ls (As.reverse ++ .ref b :: rest)) rest (fs_Qc E v M' (Value.ref b :: As).toArray) (fun q => E.2.1.size ≤ q)) :
    fs_Lk E p l e R s m args below meth c nL Q pc (pc + 3) na lo hi (fs_Con E l d y bytes maxL rt) := by
  obtain ⟨hx, hb, hml, hown, hwm, hlk0, hr, hRR, hE⟩ := C
  intro As rest M M' v H ls locs cells slots hc hlen hR hls hcat hrecv hcells hslots kk
  obtain ⟨hm, hM⟩ := hc
  obtain ⟨a, As, rfl, his⟩ := hrecv h0
  obtain ⟨t, t1, t2, t3, t4, q, hq1, cell, w1, w2, w3, -⟩ := fs_obj hR h0 h9 his
  have hcls := ((fs_K (s := s) hE hwm).1 t _ hq1).2
  have e : (((Value.ref a :: As).map (fs_tr E)).reverse ++ rest.map (fs_tr E)) = (As.map (fs_tr E)).reverse ++ .ref (fs_ra E a) :: rest.map (fs_tr E) := by
    rw [fs_map_ref (fs_rv_ne t4), List.reverse_cons, List.append_assoc]
    rfl
  rw [e]
  refine fs_run (hrun t q (As.map (fs_tr E)) (rest.map (fs_tr E)) (fs_ra E a) H ls locs cells slots M M' v (.ref a :: As) t1 t2 hq1 hM ⟨fs_blind _ _ _, ⟨cell, w1, by rw [w3]; rfl, by rw [w2]; exact hcls.1⟩, fun U hU hW => ⟨?_, hwm.trans hW, by rw [hU]; exact hR⟩⟩ (by rw [List.length_map]; exact hlen) hls (by rw [fs_cats]; exact hcat) hcells hslots) (fun v0 st0 t L hL hq => ?_)
  · rw [fs_map_ref (fs_rv_ne t4)]
  · obtain ⟨rfl, hR'⟩ := fs_fin hq
    exact kk _ L hL hR'
theorem fs_lk_virtual (C : fs_C E p R s m args meth c cc own nL ret NF SF N0 S0) (h0 : 0 < lo) (h9 : hi < 900) (hd : decode cc pc = .ok (.invokevirtual idx, 3)) (hcode : (Cond.code y bytes maxL rt).before args s = true) (hini : (Cond.initialized y.cls).before args s = true) (hin : (Cond.instanceMethod y).before args s = true)
    (hl : (Cond.methodLink own idx y).before args s = true ∨ ∃ host, (Cond.methodLinkNest own idx y host).before args s = true) (hy : y.cls ≠ "java/lang/invoke/MethodHandle" ∧ y.cls ≠ "java/lang/invoke/VarHandle") (hps : (parseMethodDescriptor y.desc).map (fun d => d.parameters.length + 1) = some na)
    (hfr : d + 1 ≤ R.frames) (hlo : 8 + (maxL + 11) + 64 * d ≤ R.locals) (hsel : ∀ t, lo ≤ t → t ≤ hi → ∃ q : vw_C, E.2.2.2.2.1[t]? = some q ∧ (Cond.selects q.1 y y).before args s = true) : fs_Lk E p l e R s m args below meth c nL Q pc (pc + 3) na lo hi (fs_Con E l d y bytes maxL rt) := by
  have C0 := C
  obtain ⟨hx, hb, hml, hown, hwm, hlk0, hr, hRR, hE⟩ := C
  refine fs_lk_recv C0 h0 h9 (fun t q As rest b H ls locs cells slots M M' v A0 t1 t2 hq hM hp hlen hls hcat hc1 hc2 => ?_)
  obtain ⟨q', g1, g2⟩ := hsel t t1 t2
  obtain rfl : q' = q := Option.some.inj (g1.symm.trans hq)
  have hn : ∀ sig, parseMethodDescriptor y.desc = some sig → As.length = sig.parameters.length := by
    intro sig hs
    rw [hs] at hps
    have := Option.some.inj hps
    dsimp only at this
    omega
  rcases hl with hl | ⟨host, hl⟩
  · exact va_runV (Ts := []) (n := As.length) (nL := nL) ⟨hx, hb, hml, hown, fun w h => by cases h⟩ hM ⟨⟨rfl, rfl, hfr, hlo, fs_ws1 hcode, List.mem_singleton_self _, hcode, hini, hy, hn, hl⟩, hin, g2⟩ hp rfl rfl hls rfl (by show 2 * 0 + _ ≤ 8; omega) hd ⟨hc1, hc2⟩
  · exact va_runVN (Ts := []) (n := As.length) (nL := nL) ⟨hx, hb, hml, hown, fun w h => by cases h⟩ hM ⟨⟨⟨rfl, rfl, hfr, hlo, fs_ws1 hcode, List.mem_singleton_self _⟩, hcode, hini, hy, hn, hl⟩, hin, g2⟩ hp rfl rfl hls rfl (by show 2 * 0 + _ ≤ 8; omega) hd ⟨hc1, hc2⟩
/-- inherited, overriding or abstract: the reference names x, found in owner; the class runs y -/
theorem fs_lk_up {owner : String} (C : fs_C E p R s m args meth c cc own nL ret NF SF N0 S0) (h0 : 0 < lo) (h9 : hi < 900) (hd : decode cc pc = .ok (.invokevirtual idx, 3)) (hcode : (Cond.code y bytes maxL rt).before args s = true) (hini : (Cond.initialized y.cls).before args s = true) (hin : (Cond.instanceMethod y).before args s = true)
    (hl : (Cond.methodLink own idx x).before args s = true) (hsm : (Cond.sameMethod x.cls owner x.name x.desc).before args s = true) (hdc : va_Decl s ⟨owner, x.name, x.desc⟩) (hy : owner ≠ "java/lang/invoke/MethodHandle" ∧ owner ≠ "java/lang/invoke/VarHandle") (hps : (parseMethodDescriptor x.desc).map (fun d => d.parameters.length + 1) = some na)
    (hfr : d + 1 ≤ R.frames) (hlo : 8 + (maxL + 11) + 64 * d ≤ R.locals) (hsel : ∀ t, lo ≤ t → t ≤ hi → ∃ q : vw_C, E.2.2.2.2.1[t]? = some q ∧ (Cond.selects q.1 x y).before args s = true) : fs_Lk E p l e R s m args below meth c nL Q pc (pc + 3) na lo hi (fs_Con E l d y bytes maxL rt) := by
  have C0 := C
  obtain ⟨hx, hb, hml, hown, hwm, hlk0, hr, hRR, hE⟩ := C
  refine fs_lk_recv C0 h0 h9 (fun t q As rest b H ls locs cells slots M M' v A0 t1 t2 hq hM hp hlen hls hcat hc1 hc2 => ?_)
  obtain ⟨q', g1, g2⟩ := hsel t t1 t2
  obtain rfl : q' = q := Option.some.inj (g1.symm.trans hq)
  have hn : ∀ sig, parseMethodDescriptor x.desc = some sig → As.length = sig.parameters.length := by
    intro sig hs
    rw [hs] at hps
    have := Option.some.inj hps
    dsimp only at this
    omega
  exact va_runU (Ts := []) (n := As.length) (nL := nL) (owner := owner) ⟨hx, hb, hml, hown, fun w h => by cases h⟩ hM ⟨⟨rfl, rfl, hfr, hlo, fs_ws1 hcode, List.mem_singleton_self _⟩, hcode, hini, hy, hn, hl, hsm, hdc, g2, hin⟩ hp rfl rfl hls rfl (by show 2 * 0 + _ ≤ 8; omega) hd ⟨hc1, hc2⟩
theorem fs_lk_init (C : fs_C E p R s m args meth c cc own nL ret NF SF N0 S0) (h0 : 0 < lo) (h9 : hi < 900) (hd : decode cc pc = .ok (.invokespecial idx, 3)) (hcode : (Cond.code y bytes maxL none).before args s = true) (hini : (Cond.initialized y.cls).before args s = true) (hin : (Cond.instanceMethod y).before args s = true)
    (hl : (Cond.methodLink own idx y).before args s = true ∨ ∃ host, (Cond.methodLinkNest own idx y host).before args s = true) (hnm : y.name = "<init>") (hy : y.cls ≠ "java/lang/invoke/MethodHandle" ∧ y.cls ≠ "java/lang/invoke/VarHandle") (hps : (parseMethodDescriptor y.desc).map (fun d => d.parameters.length + 1) = some na)
    (hfr : d + 1 ≤ R.frames) (hlo : 8 + (maxL + 11) + 64 * d ≤ R.locals) : fs_Lk E p l e R s m args below meth c nL Q pc (pc + 3) na lo hi (fs_Con E l d y bytes maxL none) := by
  have C0 := C
  obtain ⟨hx, hb, hml, hown, hwm, hlk0, hr, hRR, hE⟩ := C
  refine fs_lk_recv C0 h0 h9 (fun t q As rest b H ls locs cells slots M M' v A0 t1 t2 hq hM hp hlen hls hcat hc1 hc2 => ?_)
  have hn : ∀ sig, parseMethodDescriptor y.desc = some sig → As.length = sig.parameters.length := by
    intro sig hs
    rw [hs] at hps
    have := Option.some.inj hps
    dsimp only at this
    omega
  rcases hl with hl | ⟨host, hl⟩
  · exact va_runI (Ts := []) (n := As.length) (nL := nL) ⟨hx, hb, hml, hown, fun w h => by cases h⟩ hM ⟨⟨rfl, rfl, hfr, hlo, fs_ws1 hcode, List.mem_singleton_self _, hcode, hini, hy, hn, hl⟩, hnm, hin⟩ ⟨hp.1, hp.2.2⟩ rfl rfl hls rfl (by show 2 * 0 + _ ≤ 8; omega) hd ⟨hc1, hc2⟩
  · exact va_runIN (Ts := []) (n := As.length) (nL := nL) ⟨hx, hb, hml, hown, fun w h => by cases h⟩ hM ⟨⟨⟨rfl, rfl, hfr, hlo, fs_ws1 hcode, List.mem_singleton_self _⟩, hcode, hini, hy, hn, hl⟩, hnm, hin⟩ ⟨hp.1, hp.2.2⟩ rfl rfl hls rfl (by show 2 * 0 + _ ≤ 8; omega) hd ⟨hc1, hc2⟩
/-- a superclass's method by 'super' -/
theorem fs_lk_super (C : fs_C E p R s m args meth c cc own nL ret NF SF N0 S0) (h0 : 0 < lo) (h9 : hi < 900) (hd : decode cc pc = .ok (.invokespecial idx, 3)) (hcode : (Cond.code y bytes maxL rt).before args s = true) (hini : (Cond.initialized y.cls).before args s = true) (hin : (Cond.instanceMethod y).before args s = true)
    (hl : (Cond.methodLink own idx y).before args s = true) (hsm : (Cond.sameMethod y.cls y.cls y.name y.desc).before args s = true) (hsu : (Cond.superclass own y.cls).before args s = true) (hnm : y.name ≠ "<init>") (hps : (parseMethodDescriptor y.desc).map (fun d => d.parameters.length + 1) = some na)
    (hfr : d + 1 ≤ R.frames) (hlo : 8 + (maxL + 11) + 64 * d ≤ R.locals) : fs_Lk E p l e R s m args below meth c nL Q pc (pc + 3) na lo hi (fs_Con E l d y bytes maxL rt) := by
  have C0 := C
  obtain ⟨hx, hb, hml, hown, hwm, hlk0, hr, hRR, hE⟩ := C
  refine fs_lk_recv C0 h0 h9 (fun t q As rest b H ls locs cells slots M M' v A0 t1 t2 hq hM hp hlen hls hcat hc1 hc2 => ?_)
  have hn : ∀ sig, parseMethodDescriptor y.desc = some sig → As.length = sig.parameters.length := by
    intro sig hs
    rw [hs] at hps
    have := Option.some.inj hps
    dsimp only at this
    omega
  exact va_runSU ((fs_K (s := s) hE hwm).1 t _ hq).2 (Ts := []) (n := As.length) (nL := nL) ⟨hx, hb, hml, hown, fun w h => by cases h⟩ hM ⟨⟨rfl, rfl, hfr, hlo, fs_ws1 hcode, List.mem_singleton_self _⟩, hl, hsm, hsu, hin, hini, hcode, hnm, hn⟩ hp rfl rfl hls rfl (by show 2 * 0 + _ ≤ 8; omega) hd ⟨hc1, hc2⟩
/-- through an interface -/
theorem fs_lk_face {cnt : Nat} (C : fs_C E p R s m args meth c cc own nL ret NF SF N0 S0) (h0 : 0 < lo) (h9 : hi < 900) (hd : decode cc pc = .ok (.invokeinterface idx cnt, 5)) (hcode : (Cond.code y bytes maxL rt).before args s = true) (hini : (Cond.initialized y.cls).before args s = true) (hin : (Cond.instanceMethod y).before args s = true)
    (hl : (Cond.methodLink own idx x).before args s = true) (hdc : (Cond.declares x).before args s = true) (hfa : (Cond.interfaceMethod x.cls x.cls x.name x.desc).before args s = true) (hpu : (Cond.publicMethod y).before args s = true) (hy : x.cls ≠ "java/lang/invoke/MethodHandle" ∧ x.cls ≠ "java/lang/invoke/VarHandle") (hps : (parseMethodDescriptor x.desc).map (fun d => d.parameters.length + 1) = some na)
    (hfr : d + 1 ≤ R.frames) (hlo : 8 + (maxL + 11) + 64 * d ≤ R.locals) (hsel : ∀ t, lo ≤ t → t ≤ hi → ∃ q : vw_C, E.2.2.2.2.1[t]? = some q ∧ (Cond.selects q.1 x y).before args s = true ∧ (Cond.unhidden q.1 x.name x.desc).before args s = true ∧ (Cond.castable q.1 x.cls).before args s = true) : fs_Lk E p l e R s m args below meth c nL Q pc (pc + 5) na lo hi (fs_Con E l d y bytes maxL rt) := by
  obtain ⟨hx, hb, hml, hown, hwm, hlk0, hr, hRR, hE⟩ := C
  intro As rest M M' v H ls locs cells slots hc hlen hR hls hcat hrecv hcells hslots kk
  obtain ⟨hm, hM⟩ := hc
  obtain ⟨a, As, rfl, his⟩ := hrecv h0
  obtain ⟨t, t1, t2, t3, t4, q, hq1, cell, w1, w2, w3, -⟩ := fs_obj hR h0 h9 his
  have hcls := ((fs_K (s := s) hE hwm).1 t _ hq1).2
  obtain ⟨q', g1, g2, g3, g4⟩ := hsel t t1 t2
  obtain rfl : q' = q := Option.some.inj (g1.symm.trans hq1)
  have e : (((Value.ref a :: As).map (fs_tr E)).reverse ++ rest.map (fs_tr E)) = (As.map (fs_tr E)).reverse ++ .ref (fs_ra E a) :: rest.map (fs_tr E) := by
    rw [fs_map_ref (fs_rv_ne t4), List.reverse_cons, List.append_assoc]
    rfl
  rw [e]
  have hn : ∀ sig, parseMethodDescriptor x.desc = some sig → (As.map (fs_tr E)).length = sig.parameters.length := by
    intro sig hs
    rw [hs] at hps
    have := Option.some.inj hps
    dsimp only at this
    rw [List.length_map]
    simp only [List.length_cons] at hlen
    omega
  have hp : PreV s H q'.1 (fs_ra E a) (fs_Pc E (.ref a :: As) M) (As.map (fs_tr E)) := ⟨fs_blind _ _ _, ⟨cell, w1, by rw [w3]; rfl, by rw [w2]; exact hcls.1⟩, fun U hU hW => ⟨by rw [fs_map_ref (fs_rv_ne t4)], hwm.trans hW, by rw [hU]; exact hR⟩⟩
  refine fs_run5 (va_runF (Ts := []) (n := (As.map (fs_tr E)).length) (nL := nL) (rest := rest.map (fs_tr E)) (g := F0 m pc ls _) hcls ⟨hx, hb, hml, hown, fun w h => by cases h⟩ hM ⟨⟨rfl, rfl, hfr, hlo, fs_ws1 hcode, List.mem_singleton_self _⟩, hl, hdc, hfa, g2, hin, hpu, g3, g4, hini, hcode, hy, hn⟩ hp rfl rfl hls rfl (by rw [fs_cats]; show 2 * 0 + _ ≤ 8; omega) hd ⟨hcells, hslots⟩) (fun v0 st0 t L hL hq => ?_)
  obtain ⟨rfl, hR'⟩ := fs_fin hq
  exact kk _ L hL hR'
theorem fs_con_mono : ∀ As M v M', fs_Con E l d y bytes maxL rt As M v M' → fm_nx M ≤ fm_nx M' ∧ fm_ns M ≤ fm_ns M' := fun _ _ _ _ h => h.1
end FsL
