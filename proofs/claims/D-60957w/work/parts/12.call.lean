section MjCall
variable {own : String} {cc : ByteArray} {nL fr : Nat} {ini : Bool} {hh : List (Nat × Nat × Nat × Nat)} {K : mj_M} {Z : mj_Z} {pc : Nat} {L : mj_L} {st : List Value} {h : mj_H}
def mj_c0 (kind len : Nat) : mj_C := (kind, len, fun _ => 0, fun _ => 0, fun _ => none)
/-- the heap with one cell more -/
def mj_nw (h : mj_H) (kind len sl : Nat) : mj_H := (mj_up h.1 h.2.1 (mj_c0 kind len), h.2.1 + 1, h.2.2 + sl)
theorem mj_alloc (C : mj_C0 own cc nL fr ini hh K Z) {kind len w : Nat} {x : ClassId} (k2 : mj_G K Z pc L (.ref h.2.1 :: st) (mj_nw h kind len w)) (A : kn K ≤ h.2.1) (B : ksl K ≤ h.2.2) {H H1 : Heap} {ls : Array Slot} {locs : List Loc} {q : Nat} {κ : Nat → ClassId} (r1 : 27 ≤ h.2.1) (r2 : H.size = Z.2.2.1 + (h.2.1 - 27))
    (r3 : ∀ i, h.2.1 ≤ i → (h.1 i).1 = 99) (r4 : ∀ i, i < 26 → (h.1 i).1 = 97) (r5 : h.1 26 = (98, Z.2.2.2.1, Z.2.2.2.2.1, fun _ => 0, fun _ => none)) (r7 : ∀ i, (h.1 i).1 < 5 → ArrOfT (ks K) (κ i) (mj_et (h.1 i).1) ∧ va_RA (ks K) (κ i) (mj_et (h.1 i).1))
    (p1 : va_P Z.1 mj_cl (mj_ws (mj_t Z) κ h.2.1 h.1 ++ [(q, mj_e (mj_t Z) x (mj_c0 kind len))]) H1) (d1 : va_D (mj_A Z.2.2.1) (mj_ws (mj_t Z) κ h.2.1 h.1 ++ [(q, mj_e (mj_t Z) x (mj_c0 kind len))])) (s1 : va_S (mj_A Z.2.2.1) (ks K).heap H1 locs)
    (hx : kind < 5 → ArrOfT (ks K) x (mj_et kind) ∧ va_RA (ks K) x (mj_et kind)) (g : mj_Lo (mj_t Z) (kc K).maxLocals L ls) : mj_w K H1 locs (h.2.1 - kn K + 1) (h.2.2 - ksl K + w) (F0 (km K) pc ls (.ref q :: st.map (mj_tv (mj_t Z)))) := by
  refine mj_w.sz fun hz => ?_
  have hlen : (mj_ws (mj_t Z) κ h.2.1 h.1).length = h.2.1 - 27 := by simp [mj_ws]
  have hl : (mj_ws (mj_t Z) κ h.2.1 h.1 ++ [(q, mj_e (mj_t Z) x (mj_c0 kind len))])[h.2.1 - 27]? = some (q, mj_e (mj_t Z) x (mj_c0 kind len)) := by
    rw [List.getElem?_append_right (by omega), hlen, Nat.sub_self]
    rfl
  have hq1 : q < H1.size := (p1 _ _ hl).lt
  have hq2 : Z.2.2.1 ≤ q := d1.2 _ _ hl
  have hq3 : ∀ j, j < h.2.1 - 27 → q ≠ Z.2.2.1 + j := by
    intro j hj e
    have h1 := mj_ws_at (t := mj_t Z) (κ := κ) (M := h.1) (a := j + 27) (n := h.2.1) (by omega) (by omega)
    rw [Nat.add_sub_cancel] at h1
    have h2 : (mj_ws (mj_t Z) κ h.2.1 h.1 ++ [(q, mj_e (mj_t Z) x (mj_c0 kind len))])[j]? = some (mj_t Z (j + 27), mj_e (mj_t Z) (κ (j + 27)) (h.1 (j + 27))) := by
      rw [List.getElem?_append_left (by omega)]
      exact h1
    have e2 : mj_t Z (j + 27) = Z.2.2.1 + j := (mj_tr_made (by omega)).trans (by omega)
    have h3 := d1.1 _ _ _ _ hl h2 (e.trans e2.symm)
    omega
  have e1 := C.hz
  have e2 := C.n0
  have hq : q = mj_t Z h.2.1 := by
    rw [show mj_t Z h.2.1 = Z.2.2.1 + (h.2.1 - 27) from mj_tr_made r1]
    have h3 := hq3 (q - Z.2.2.1)
    omega
  subst hq
  rw [mj_ws_push r1] at p1
  have n1 : h.2.1 - kn K + 1 = h.2.1 + 1 - kn K := by omega
  have n2 : h.2.2 - ksl K + w = h.2.2 + w - ksl K := by omega
  rw [n1, n2]
  refine mj_use C (M := mj_up h.1 h.2.1 (mj_c0 kind len)) (n := h.2.1 + 1) (sl := h.2.2 + w) k2 (by omega) (by omega) (κ := mj_up κ h.2.1 x) (by omega) (fun i hi => ?_) (mj_up97 r4 r1) (by rw [mj_up_n _ _ (by omega)]; exact r5) p1 (fun i hi => ?_) s1 g
  · rw [mj_up_n _ _ (by omega)]
    exact r3 i (by omega)
  · by_cases e : i = h.2.1
    · subst e
      rw [mj_up_s] at hi
      rw [mj_up_s, mj_up_s]
      exact hx hi
    · rw [mj_up_n _ _ e] at hi
      rw [mj_up_n _ _ e, mj_up_n _ _ e]
      exact r7 i hi
/-- newarray of ints, bytes, booleans; of longs -/
theorem mj_newa (C : mj_C0 own cc nL fr ini hh K Z) {kind len : Nat} {n : Int32} {atype : ArrayType} (q : Jvm.Cond.arrayClass (newarray.typeOf atype) ∈ lw_all) (hk : kind < 4) (hty : newarray.typeOf atype = mj_et kind) (hn : ¬ n < 0) (hN : n.toNatClampNeg = len) (hb : len * 8 ≤ 536870912)
    (d : decode cc pc = .ok (.newarray atype, 2)) (k2 : mj_G K Z (pc + 2) L (.ref h.2.1 :: st) (mj_nw h kind len len)) : mj_G K Z pc L (.int n :: st) h := by
  have hl1 : h.2.1 + 1 ≤ kn K + (kR K).cells := k2.1
  have hl2 : h.2.2 + len ≤ ksl K + (kR K).slots := k2.2.1
  refine ⟨by omega, by omega, fun A B H ls locs r f g => ?_⟩
  obtain ⟨r1, r2, r3, r4, r5, κ, r6, r7⟩ := r
  have hcb : componentBytes (mj_et kind) ≤ 8 := by
    rcases (show kind = 0 ∨ kind = 1 ∨ kind = 2 ∨ kind = 3 by omega) with e | e | e | e <;> subst e <;> decide
  have hbytes : len * componentBytes (mj_et kind) ≤ 536870912 := Nat.le_trans (Nat.mul_le_mul_left _ hcb) hb
  by_cases e : kind = 2
  · subst e
    refine va_newa C.ex C.cd (C.ts _ q) hty C.kk r6 (mj_D _ _ _ _ _ _) f C.hA (N' := len) (a0 := (len, .inr (.inl fun _ => 0))) (fun cA => rfl) hn hN hbytes (by omega) (by omega) d fun q cA H1 h1 p1 d1 s1 => ?_
    exact mj_alloc C k2 A B (κ := κ) (x := cA) r1 r2 r3 r4 r5 r7 (by rw [mj_e_long (c := mj_c0 2 len) rfl]; exact p1) (by rw [mj_e_long (c := mj_c0 2 len) rfl]; exact d1) s1 (fun _ => h1.2 0 _ rfl) g
  · have ei : mj_e (mj_t Z) = mj_e (mj_t Z) := rfl
    refine va_newa C.ex C.cd (C.ts _ q) hty C.kk r6 (mj_D _ _ _ _ _ _) f C.hA (N' := len) (a0 := (len, .inl fun _ => 0)) (fun cA => ?_) hn hN hbytes (by omega) (by omega) d fun q cA H1 h1 p1 d1 s1 => ?_
    · rcases (show kind = 0 ∨ kind = 1 ∨ kind = 3 by omega) with e | e | e <;> subst e <;> rfl
    · exact mj_alloc C k2 A B (κ := κ) (x := cA) r1 r2 r3 r4 r5 r7 (by rw [mj_e_int (c := mj_c0 kind len) hk e]; exact p1) (by rw [mj_e_int (c := mj_c0 kind len) hk e]; exact d1) s1 (fun _ => h1.2 0 _ rfl) g
theorem mj_newq (C : mj_C0 own cc nL fr ini hh K Z) {len index : Nat} {n : Int32} (q : Jvm.Cond.classLink own index RX3 ∈ lw_all) (hn : ¬ n < 0) (hN : n.toNatClampNeg = len) (hb : len * 8 ≤ 536870912)
    (d : decode cc pc = .ok (.anewarray index, 3)) (k2 : mj_G K Z (pc + 3) L (.ref h.2.1 :: st) (mj_nw h 4 len len)) : mj_G K Z pc L (.int n :: st) h := by
  have hl1 : h.2.1 + 1 ≤ kn K + (kR K).cells := k2.1
  have hl2 : h.2.2 + len ≤ ksl K + (kR K).slots := k2.2.1
  refine ⟨by omega, by omega, fun A B H ls locs r f g => ?_⟩
  obtain ⟨r1, r2, r3, r4, r5, κ, r6, r7⟩ := r
  refine va_newq C.ex C.cd C.ow (C.ts _ q) C.wo.2.2.2.2.2.2.2.1 C.kk r6 (mj_D _ _ _ _ _ _) f C.hA (N' := len) hn hN (by omega) (by omega) (by omega) d fun q cA H1 h1 p1 d1 s1 => ?_
  exact mj_alloc C k2 A B (κ := κ) (x := cA) r1 r2 r3 r4 r5 r7 (by rw [mj_e_ref (c := mj_c0 4 len) rfl]; exact p1) (by rw [mj_e_ref (c := mj_c0 4 len) rfl]; exact d1) s1 (fun _ => h1.2 0 _ rfl) g
theorem mj_fv_def (ty : FieldType) (h1 : ty ≠ .float) (h2 : ty ≠ .double) : defaultValue ty = mj_fv ty 0 0 .null := by
  cases ty <;> first | rfl | (exact absurd rfl h1) | (exact absurd rfl h2)
theorem mj_ty_ok (ci j : Nat) : mj_ty ci j ≠ .float ∧ mj_ty ci j ≠ .double := by
  unfold mj_ty
  split
  · unfold tyX1
    split <;> exact ⟨by decide, by decide⟩
  · unfold tyX3
    split <;> exact ⟨by decide, by decide⟩
  · unfold tyX2
    split <;> exact ⟨by decide, by decide⟩
theorem mj_new (C : mj_C0 own cc nL fr ini hh K Z) {ci N index : Nat} {Cn : String} {T : u_T} (hc : mj_cl[ci]? = some (Cn, T, N)) (hN : mj_N ci = N) (hin : ∀ w ∈ u_ws Cn T N, w ∈ lw_all) (hty : ∀ k, k < N → parseFieldDescriptor (T k).2.2.1 = some (mj_ty ci k)) (q1 : Jvm.Cond.classLink own index Cn ∈ lw_all) (q2 : Jvm.Cond.instantiable Cn N ∈ lw_all) (q3 : Jvm.Cond.initialized Cn ∈ lw_all)
    (d : decode cc pc = .ok (.new index, 3)) (k2 : mj_G K Z (pc + 3) L (.ref h.2.1 :: st) (mj_nw h (5 + ci) 0 N)) : mj_G K Z pc L st h := by
  have hl1 : h.2.1 + 1 ≤ kn K + (kR K).cells := k2.1
  have hl2 : h.2.2 + N ≤ ksl K + (kR K).slots := k2.2.1
  refine ⟨by omega, by omega, fun A B H ls locs r f g => ?_⟩
  obtain ⟨r1, r2, r3, r4, r5, κ, r6, r7⟩ := r
  have e0 : ∀ κ0 : ClassId, mj_e (mj_t Z) κ0 (mj_c0 (5 + ci) 0) = .inr (ci, mj_fs (mj_t Z) ci (mj_c0 (5 + ci) 0)) := fun _ => mj_e_obj rfl
  refine va_new (fs := mj_fs (mj_t Z) ci (mj_c0 (5 + ci) 0)) C.ex C.cd C.ts hin (mj_ty ci) hty C.ow (C.ts _ q1) (C.ts _ q2) (C.ts _ q3) C.kk r6 (mj_D _ _ _ _ _ _) f C.hA hc (fun j hj => ?_) (by omega) (by omega) d fun q H1 p1 d1 s1 => ?_
  · unfold vp_V
    rw [List.getD_eq_getElem?_getD, mj_fs_at (by omega), Option.getD_some]
    exact mj_fv_def _ (mj_ty_ok ci j).1 (mj_ty_ok ci j).2
  · exact mj_alloc C k2 A B (κ := κ) (x := 0) r1 r2 r3 r4 r5 r7 (by rw [e0]; exact p1) (by rw [e0]; exact d1) s1 (fun hx => by omega) g
/-- new X() of an exception -/
theorem mj_make (C : mj_C0 own cc nL fr ini hh K Z) {ci ik ic : Nat} {Cn : String} {T : u_T} {names : List String} (hc : mj_cl[ci]? = some (Cn, T, 0)) (hci : 3 ≤ ci) (hci2 : ci < 50) (hcls : Bundle.fit Cn = true) (hnames : ∀ n ∈ names, Bundle.fit n = true)
    (q1 : Jvm.Cond.classLink own ik Cn ∈ lw_all) (q2 : Jvm.Cond.initialized Cn ∈ lw_all) (hat : ∀ w ∈ vx_at0 own ic Cn names, w ∈ lw_all ∨ w ∈ mj_nest) (hgood : ∀ w ∈ Cond.classLink own ik Cn :: Cond.initialized Cn :: vx_at0 own ic Cn names, vx_ot w = true)
    (d0 : decode cc pc = .ok (.new ik, 3)) (d3 : decode cc (pc + 3) = .ok (.dup, 1)) (d4 : decode cc (pc + 4) = .ok (.invokespecial ic, 3)) (hfr : names.length + 4 ≤ fr) (hst : (st.map fun v => v.category).sum + 13 * (names.length + 1) + 42 ≤ 100 * fr)
    (k2 : mj_G K Z (pc + 7) L (.ref h.2.1 :: st) (mj_nw h (5 + ci) 0 6)) : mj_G K Z pc L st h := by
  have hl1 : h.2.1 + 1 ≤ kn K + (kR K).cells := k2.1
  have hl2 : h.2.2 + 6 ≤ ksl K + (kR K).slots := k2.2.1
  refine ⟨by omega, by omega, fun A B H ls locs r f g => ?_⟩
  obtain ⟨r1, r2, r3, r4, r5, κ, r6, r7⟩ := r
  have hfrm := C.rf
  have hloc := C.lo
  obtain ⟨-, -, -, -, -, w6, w7, -, w9, -⟩ := C.wo
  have hsum : ((st.map (mj_tv (mj_t Z))).map fun v => v.category).sum = (st.map fun v => v.category).sum := by
    rw [List.map_map]
    congr 2
    funext v
    exact mj_tv_cat _ _
  have e0 : ∀ κ0 : ClassId, mj_e (mj_t Z) κ0 (mj_c0 (5 + ci) 0) = .inr (ci, []) := fun _ => by
    rw [mj_e_obj (ci := ci) rfl]
    have : mj_N ci = 0 := by
      unfold mj_N
      split <;> first | omega | rfl
    simp [mj_fs, this]
  refine vx_make0 C.ex C.cd C.tr (names := names) (T0 := T) C.ow hcls hnames (C.ts _ q1) (C.ts _ q2) (fun w hw => ?_) hgood w6 w7 f g.1 d0 d3 d4 C.kk r6 (mj_D _ _ _ _ _ _) C.hA hc (by omega) (by omega) (by omega) (by omega) fun q H1 p1 d1 s1 => ?_
  · rcases hat w hw with e | e
    · exact C.ts _ e
    · exact va_Nw.use (mj_nest_tab _ e) (w9 _ e)
  · exact mj_alloc C k2 A B (κ := κ) (x := 0) r1 r2 r3 r4 r5 r7 (by rw [e0]; exact p1) (by rw [e0]; exact d1) s1 (fun hx => by omega) g
theorem mj_objInit (C : mj_C0 own cc nL fr ini hh K Z) {idx : Nat} {x : Nat} (q1 : Jvm.Cond.methodLink own idx Lib.objectInit ∈ lw_all) (q2 : Jvm.Cond.instanceMethod Lib.objectInit ∈ lw_all) (q3 : Jvm.Cond.code Lib.objectInit ⟨#[0xb1]⟩ 1 none ∈ lw_all) (hfr : 1 ≤ fr) (d : decode cc pc = .ok (.invokespecial idx, 3)) (k2 : mj_G K Z (pc + 3) L [] h) : mj_G K Z pc L [.ref x] h := by
  refine ⟨k2.1, k2.2.1, fun A B H ls locs r f g => ?_⟩
  have hfrm := C.rf
  have hloc := C.lo
  exact W.objInit C.ex C.cd C.ow (C.ts _ q1) (C.ts _ q2) (C.ts _ q3) rfl g.1 rfl d (by omega) (by show 2 * 0 + 0 + 12 ≤ _; omega) (k2.2.2 A B H ls locs r f g)
theorem mj_ldcS (C : mj_C0 RX1 cc nL fr ini hh K Z) {index i : Nat} {tx : String} (ht : mj_tx[i]? = some (index, tx)) (d : decode cc pc = .ok (.ldc index, 2)) (k2 : mj_G K Z (pc + 2) L (.ref i :: st) h) : mj_G K Z pc L st h := by
  refine ⟨k2.1, k2.2.1, fun A B H ls locs r f g => ?_⟩
  have k3 := k2.2.2 A B H ls locs r f g
  have hi : i < 26 := (List.getElem?_eq_some_iff.mp ht).1
  have e : mj_t Z i = Z.2.2.2.2.2 i := if_pos hi
  rw [List.map_cons, show mj_tv (mj_t Z) (.ref i) = .ref (mj_t Z i) from rfl, e] at k3
  exact va_ldcS C.ex C.cd C.ow (C.wo.2.2.1 i index tx ht) d k3
theorem mj_ldcwS (C : mj_C0 RX1 cc nL fr ini hh K Z) {index i : Nat} {tx : String} (ht : mj_tx[i]? = some (index, tx)) (d : decode cc pc = .ok (.ldc_w index, 3)) (k2 : mj_G K Z (pc + 3) L (.ref i :: st) h) : mj_G K Z pc L st h := by
  refine ⟨k2.1, k2.2.1, fun A B H ls locs r f g => ?_⟩
  have k3 := k2.2.2 A B H ls locs r f g
  have hi : i < 26 := (List.getElem?_eq_some_iff.mp ht).1
  have e : mj_t Z i = Z.2.2.2.2.2 i := if_pos hi
  rw [List.map_cons, show mj_tv (mj_t Z) (.ref i) = .ref (mj_t Z i) from rfl, e] at k3
  intro T hT X
  obtain ⟨t, a1, b1⟩ := k3 T hT X
  have hZ := C.wo.2.2.1 i index tx ht
  exact ⟨t, X.ldcStringW C.ex C.ow (text := tx) (a := Z.2.2.2.2.2 i) hZ.1 hZ.2 (g := F0 (km K) pc ls (st.map (mj_tv (mj_t Z)))) rfl (by rw [C.cd]; exact d) t a1, b1⟩
end MjCall
