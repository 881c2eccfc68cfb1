/-! constants that are strings; statics of the library's; copies of bytes -/
section FsSp
variable {E : FE} {p : Program} {l : Launch} {e : Env} {R : Room} {s : State} {m : MethodId} {args : Array Value} {below : List Frame} {meth : Method} {c : Code} {nL NF SF N0 S0 : Nat} {Q : State → Prop} {cc : ByteArray} {own : String} {ret : Option FieldType} {S : FS}
theorem fs_ldcs {pc idx n : Nat} {tx : String} (C : fs_C E p R s m args meth c cc own nL ret NF SF N0 S0) (hd : decode cc pc = .ok (.ldc idx, 2)) (h0 : n ≠ 0) (hZ : vk_R own idx tx (fs_ra E n) E.1) : fs_Snd S own cc ret nL E p l e R s m args below meth c NF SF N0 S0 Q pc (pc + 2) (.ldc n) := by
  obtain ⟨hx, hb, hml, hown, hwm, hlk0, hr, hRR, hE⟩ := C
  intro Rt go kr r L st M h hgo hret
  refine fs_rel (hgo _ _ _ _ h) (fun H ls locs cells slots hR _ kk => ?_)
  rw [fs_map_ref (fs_rv_ne h0)] at kk
  exact va_ldcS hx hb hown (hZ.warm hwm) hd kk
/-- a static that holds a whole number -/
theorem fs_gets_i {pc idx : Nat} {v : Int} {CC n d ref : String} (C : fs_C E p R s m args meth c cc own nL ret NF SF N0 S0) (hd : decode cc pc = .ok (.getstatic idx, 3)) (hl : (Cond.fieldLink own idx ref n d).before args s = true) (hsame : ∀ x, s.fieldFound? CC n d = some x → s.fieldFound? ref n d = some x)
    (hZ : va_Z CC n d (.int (Int32.ofInt v)) (fun q => E.2.1.size ≤ q) E.1 E.2.1) : fs_Snd S own cc ret nL E p l e R s m args below meth c NF SF N0 S0 Q pc (pc + 3) (.iconst v) := by
  obtain ⟨hx, hb, hml, hown, hwm, hlk0, hr, hRR, hE⟩ := C
  intro Rt go kr r L st M h hgo hret
  refine fs_rel (hgo _ _ _ _ h) (fun H ls locs cells slots hR _ kk => ?_)
  obtain ⟨cf, kf, fi, f, a, cell, h1, h2, h3, h4, h5, h6, h7, h8⟩ := hZ.moved hwm.alike
  have ha : a < E.2.1.size := (Array.getElem?_eq_some_iff.mp h5).1
  exact W.gets hx hb hown hl (hsame _ h1) h2 h3 h4 (by rw [hR.1.2 a ha]; exact h5) (fun e => by rw [e] at h6; cases h6) h7 rfl hd kk
/-- a static that holds a reference or nothing -/
theorem fs_gets_r {pc idx k : Nat} {CC n d ref : String} (C : fs_C E p R s m args meth c cc own nL ret NF SF N0 S0) (hd : decode cc pc = .ok (.getstatic idx, 3)) (hl : (Cond.fieldLink own idx ref n d).before args s = true) (hsame : ∀ x, s.fieldFound? CC n d = some x → s.fieldFound? ref n d = some x)
    (hZ : va_Z CC n d (fs_rv E k) (fun q => E.2.1.size ≤ q) E.1 E.2.1) : fs_Snd S own cc ret nL E p l e R s m args below meth c NF SF N0 S0 Q pc (pc + 3) (.getstatic k) := by
  obtain ⟨hx, hb, hml, hown, hwm, hlk0, hr, hRR, hE⟩ := C
  intro Rt go kr r L st M h hgo hret
  refine fs_rel (hgo _ _ _ _ h) (fun H ls locs cells slots hR _ kk => ?_)
  obtain ⟨cf, kf, fi, f, a, cell, h1, h2, h3, h4, h5, h6, h7, h8⟩ := hZ.moved hwm.alike
  have ha : a < E.2.1.size := (Array.getElem?_eq_some_iff.mp h5).1
  exact W.gets hx hb hown hl (hsame _ h1) h2 h3 h4 (by rw [hR.1.2 a ha]; exact h5) (fun e => by rw [e] at h6; cases h6) h7 rfl hd kk
end FsSp
theorem fs_nn {z : Int32} (hz : ¬ z < 0) : z.toInt = (z.toNatClampNeg : Int) := by
  have hz0 : (0 : Int) ≤ z.toInt := by
    have := Int32.not_lt.mp hz
    simpa using Int32.le_iff_toInt_le.mp this
  show z.toInt = ((z.toInt.toNat : Nat) : Int)
  omega
/-- what copying bytes means -/
def fs_cpy (As : List Value) (M : FM) (v : Option Value) (M' : FM) : Prop := ∃ a0 a1 a2 a3 a4, As = [.ref a0, .int a1, .ref a2, .int a3, .int a4] ∧ v = none ∧ Fh_copy a0 a1 a2 a3 a4 M = some M'
theorem fs_cpy_mono : ∀ As M v M', fs_cpy As M v M' → fm_nx M ≤ fm_nx M' ∧ fm_ns M ≤ fm_ns M' := by
  intro As M v M' ⟨a0, a1, a2, a3, a4, _, _, e⟩
  unfold Fh_copy at e
  simp only [fi_if] at e
  split at e
  · split at e
    · cases e
      exact ⟨Nat.le_refl _, Nat.le_refl _⟩
    · cases e
  · cases e
section FsCy
variable {E : FE} {p : Program} {l : Launch} {e : Env} {R : Room} {s : State} {m : MethodId} {args : Array Value} {below : List Frame} {meth : Method} {c : Code} {nL NF SF N0 S0 : Nat} {Q : State → Prop} {cc : ByteArray} {own : String} {ret : Option FieldType} {S : FS} {pc idx : Nat}
theorem fs_lk_copy (hwr : ∀ t, 901 ≤ t → t < 905 → E.2.2.2.2.2.2.2 t = true) (C : fs_C E p R s m args meth c cc own nL ret NF SF N0 S0) (hd : decode cc pc = .ok (.invokestatic idx, 3)) (hl : (Cond.methodLink own idx arraycopyName).before args s = true) (hnat : (Cond.native arraycopyName).before args s = true) (hst : (Cond.static arraycopyName).before args s = true)
    (hini : (Cond.initialized "java/lang/System").before args s = true) (hf : 1 ≤ R.frames) (hlo : 64 ≤ R.locals) : fs_Lk E p l e R s m args below meth c nL Q pc (pc + 3) 5 0 0 fs_cpy := by
  obtain ⟨hx, hb, hml, hown, hwm, hlk0, hr, hRR, hE⟩ := C
  intro As rest M M' v H ls locs cells slots hc hlen hR hls hcat hrecv hcells hslots kk
  obtain ⟨a0, a1, a2, a3, a4, rfl, rfl, hF⟩ := hc
  unfold Fh_copy at hF
  simp only [fi_if] at hF
  split at hF
  · rename_i hq
    split at hF
    · rename_i hp
      obtain ⟨p1, p3, p4, p5, p6⟩ := hp
      have hM := Option.some.inj hF
      obtain ⟨t, cA, t1, t2, t3, t4, t5, t6, t7, q1, q2⟩ := fs_arr (s := s) hR (by omega) hq.1 hwm
      obtain ⟨u, cB, u1, u2, u3, u4, u5, u6, u7, r1, r2⟩ := fs_arr (s := s) hR (by omega) hq.2 hwm
      obtain rfl : t = 903 := by omega
      obtain rfl : u = 903 := by omega
      have w3 := hwr 903 (by decide) (by decide)
      have b1000 : 1000 ≤ a2 := fs_wr hR (by rw [u3]; exact w3)
      have m22 : M'.2.2 = M.2.2 := by rw [← hM]
      have m21 : M'.2.1 = M.2.1 := by rw [← hM]
      have m1 : ∀ f b i, M'.1 f b i = if f = 3 ∧ b = a2 ∧ a3.toNatClampNeg ≤ i ∧ i < a3.toNatClampNeg + a4.toNatClampNeg then M.1 3 a0 (a1.toNatClampNeg + (i - a3.toNatClampNeg)) else M.1 f b i := fun f b i => by rw [← hM]
      have n0 : fm_nx M' - fm_nx M = 0 := by unfold fm_nx; rw [m22, Nat.sub_self]
      have s0 : fm_ns M' - fm_ns M = 0 := by unfold fm_ns; rw [m22, Nat.sub_self]
      obtain ⟨-, k0, hk0, cm0, hkk0⟩ := t4 (M.2.2 1 a0 0) (fs_av E M 903 a0)
      obtain ⟨-, k1, hk1, cm1, hkk1⟩ := u4 (M.2.2 1 a2 0) (fs_av E M 903 a2)
      rw [hE.2.2.1.2.2.1] at hkk0 hkk1
      have eav : fs_av E M' 903 a2 = va_cpy (fs_av E M 903 a0) (fs_av E M 903 a2) a1.toNatClampNeg a3.toNatClampNeg a4.toNatClampNeg := by
        funext j
        show Value.int (M'.1 3 a2 j) = _
        rw [m1]
        unfold va_cpy
        by_cases h : a3.toNatClampNeg ≤ j ∧ j < a3.toNatClampNeg + a4.toNatClampNeg
        · rw [if_pos ⟨rfl, rfl, h⟩, if_pos h]
          rfl
        · rw [if_neg (fun y => h y.2.2), if_neg h]
          rfl
      have e : (([.ref a0, .int a1, .ref a2, .int a3, .int a4] : List Value).map (fs_tr E)).reverse ++ rest.map (fs_tr E) = .int a4 :: .int a3 :: .ref (fs_ra E a2) :: .int a1 :: .ref (fs_ra E a0) :: rest.map (fs_tr E) := by
        show Value.int a4 :: .int a3 :: fs_rv E a2 :: .int a1 :: fs_rv E a0 :: _ = _
        rw [fs_rv_ne t6, fs_rv_ne u6]
        rfl
      rw [e]
      have hwords : nativeFrameWords "java/lang/System" "arraycopy" 5 ≤ 45 := by decide +kernel
      have hcat' : ((rest.map (fs_tr E)).map fun v => v.category).sum ≤ 8 := by rw [fs_cats]; exact hcat
      intro T hT X
      obtain ⟨vm', X', step⟩ := X.arraycopy hx hown hl hnat hst hini (src := fs_ra E a0) (dst := fs_ra E a2) (cs := arrV cA (M.2.2 1 a0 0) (fs_av E M 903 a0)) (cd := arrV cB (M.2.2 1 a2 0) (fs_av E M 903 a2)) (srcPos := a1) (destPos := a3) (n := a4) (by rw [hT]; exact t5) (by rw [hT]; exact u5)
        (fun _ h => by cases h) (fun _ h => by cases h) (fun h => by cases h) (fun h => by cases h) hk0 hk1 hkk0 hkk1 rfl p1 p3 p4
        (by rw [fs_nn p1, fs_nn p4, arrV_size]; omega) (by rw [fs_nn p3, fs_nn p4, arrV_size]; omega)
        (fun vm₁ _ i hi => by
          have e2 : (arrV cA (M.2.2 1 a0 0) (fs_av E M 903 a0)).slots.getD (a1.toNatClampNeg + i) .null = fs_av E M 903 a0 (a1.toNatClampNeg + i) := by
            rw [Array.getD_eq_getD_getElem?, arrV_read _ _ (by omega)]
            rfl
          rw [e2]
          exact ⟨fs_arr_b hR t3 _, trivial⟩)
        (g := F0 m pc ls (.int a4 :: .int a3 :: .ref (fs_ra E a2) :: .int a1 :: .ref (fs_ra E a0) :: rest.map (fs_tr E))) rfl (hls.trans hml.symm) (rest := rest.map (fs_tr E)) rfl (by rw [hb]; exact hd) hf (by show 2 * 0 + _ + _ ≤ _; omega)
      have e1 : copied (arrV cA (M.2.2 1 a0 0) (fs_av E M 903 a0)) (arrV cB (M.2.2 1 a2 0) (fs_av E M 903 a2)) a1 a3 a4 = arrV cB (M.2.2 1 a2 0) (fs_av E M' 903 a2) := by
        rw [eav]
        exact va_copied (fun z : Value => z) cA cB (fs_av E M 903 a0) (fs_av E M 903 a2) p5
      rw [e1] at X' step
      have hlt : fs_ra E a2 < H.size := (Array.getElem?_eq_some_iff.mp u5).1
      have hheap : ((T.setVm vm').setCell (fs_ra E a2) (arrV cB (M.2.2 1 a2 0) (fs_av E M' 903 a2))).heap = H.setIfInBounds (fs_ra E a2) (arrV cB (M.2.2 1 a2 0) (fs_av E M' 903 a2)) := by rw [← hT]; rfl
      have hat : (H.setIfInBounds (fs_ra E a2) (arrV cB (M.2.2 1 a2 0) (fs_av E M' 903 a2)))[fs_ra E a2]? = some (arrV cB (M.2.2 1 a2 0) (fs_av E M' 903 a2)) := by simp [Array.getElem?_setIfInBounds, hlt]
      have hR' : fs_Rel E M' (H.setIfInBounds (fs_ra E a2) (arrV cB (M.2.2 1 a2 0) (fs_av E M' 903 a2))) := by
        refine fs_Rel_at hE hR (by rw [u3]; decide) (by rw [u3]; exact w3) (fun f b i hb => ⟨?_, by rw [m21], by rw [m22]⟩) (by rw [m22]) (by simp) (fun q hq => by simp [Array.getElem?_setIfInBounds, Ne.symm hq]) ?_
        · rw [m1, if_neg (fun y => hb y.2.1)]
        · rw [u3]
          unfold fs_cell
          rw [if_neg (by decide)]
          refine ⟨cB, r1, r2, ?_, ?_, fun _ j => ?_⟩
          · rw [hat, m22]
          · rw [m22]; exact u7
          · rw [eav]
            unfold va_cpy
            split
            · exact fs_arr_b hR t3 _
            · exact fs_arr_b hR u3 _
      have k2 := kk _ (((arrV cA (M.2.2 1 a0 0) (fs_av E M 903 a0)).stretch a1.toNatClampNeg a4.toNatClampNeg).zipIdx.map fun q => (⟨fs_ra E a2, a3.toNatClampNeg + q.2⟩ : Loc)) (fun q hq => by
        obtain ⟨z, -, hz⟩ := List.mem_map.mp hq
        rw [← hz]
        exact fs_ra_new b1000) hR'
      rw [n0, s0] at k2
      obtain ⟨t, a1, b1⟩ := k2 _ hheap X'
      exact ⟨t, step t a1, b1⟩
    · cases hF
  · cases hF
end FsCy
theorem mh_copy (a0 : Nat) (a1 : Int32) (a2 : Nat) (a3 a4 : Int32) (M r : FM) (h : Fh_copy a0 a1 a2 a3 a4 M = some r) : fm_nx M ≤ fm_nx r ∧ fm_ns M ≤ fm_ns r := fs_cpy_mono _ M none r ⟨a0, a1, a2, a3, a4, rfl, rfl, h⟩
