/-! contracts: what a method does with its arguments and the cells, exactly -/
abbrev mj_Res : Type := EStateM.Result (Option Nat) mj_H (Option Value)
/-- behind a call -/
def mj_bump (h h' : mj_H) : mj_H := (h'.1, max h.2.1 h'.2.1, max h.2.2 h'.2.2)
theorem mj_bump_of {h h' : mj_H} (h1 : h.2.1 ≤ h'.2.1) (h2 : h.2.2 ≤ h'.2.2) : mj_bump h h' = h' := by
  obtain ⟨M, n, s⟩ := h'
  unfold mj_bump
  dsimp only at h1 h2 ⊢
  rw [Nat.max_eq_right h1, Nat.max_eq_right h2]
def mj_rok (ret : Option FieldType) (v : Option Value) : Bool := match ret, v with
  | none, none => true
  | some .int, some (.int _) => true
  | some .boolean, some (.int x) => x == 0 || x == 1
  | some .long, some (.long _) => true
  | some (.object _), some (.ref _) => true
  | some (.array _), some (.ref _) => true
  | _, _ => false
def mj_Pc (Z : mj_Z) (av : List Value) (h : mj_H) : Array Value → State → Prop := fun v U => v = (av.map (mj_tv (mj_t Z))).toArray ∧ mj_W Z U U.heap ∧ mj_Rep Z U h U.heap
def mj_Qc (Z : mj_Z) (r : Option Value) (h' : mj_H) : Array Value → State → Outcome → State → Prop := fun _ st o t => o = .returned (r.map (mj_tv (mj_t Z))) ∧ mj_Rep Z t h' t.heap ∧ va_F (mj_A Z.2.2.1) st t
def mj_Xc (Z : mj_Z) (ci : Nat) (h' : mj_H) : String → State → State → Prop := fun E st t => E = mj_cn ci ∧ mj_Rep Z t h' t.heap ∧ va_F (mj_A Z.2.2.1) st t
def mj_Snd (y : MethodName) (ws : List Cond) (fr : Nat) (f : List Value → mj_H → mj_Res) : Prop :=
  ∀ (l : Launch), l.stackTraces = false → ∀ (Z : mj_Z) (av : List Value) (h : mj_H), match f av h with
    | .ok r h' => vx_Met l y ws { frames := fr, cells := h'.2.1 - h.2.1, slots := h'.2.2 - h.2.2, locals := 100 * fr } (mj_Pc Z av h) (mj_Qc Z r h') (fun _ _ _ => False) (h'.2.1 - h.2.1) (h'.2.2 - h.2.2) (mj_A Z.2.2.1)
    | .error (some ci) h' => vx_Met l y ws { frames := fr, cells := h'.2.1 - h.2.1, slots := h'.2.2 - h.2.2, locals := 100 * fr } (mj_Pc Z av h) (fun _ _ _ _ => False) (mj_Xc Z ci h') (h'.2.1 - h.2.1) (h'.2.2 - h.2.2) (mj_A Z.2.2.1)
    | .error none _ => True
/-- on behind a call -/
def mj_K2 (K : mj_M) (Z : mj_Z) (pc : Nat) (L : mj_L) (st : List Value) (h : mj_H) (res : mj_Res) : Prop := match res with
  | .ok r h' => mj_G K Z (pc + 3) L (r.toList ++ st) (mj_bump h h')
  | .error (some ci) h' => mj_GX K Z pc L (mj_bump h h') ci
  | .error none _ => False
theorem mj_Pc_blind (Z : mj_Z) (av : List Value) (h : mj_H) : FrameBlind (mj_Pc Z av h) := fun a U g mk q => by
  obtain ⟨q0, q1, q2⟩ := q
  exact ⟨q0, mj_W.same (s := U) (U := U.calling g mk a) rfl q1, mj_Rep.moved (u := U) (U := U.calling g mk a) (Vm.Alike.refl U.vm) q2⟩
theorem mj_Rep.bump {Z : mj_Z} {U : State} {h h' : mj_H} {H : Heap} (r : mj_Rep Z U h' H) (hn : h.2.1 ≤ h'.2.1) : mj_Rep Z U (mj_bump h h') H := by
  have e : max h.2.1 h'.2.1 = h'.2.1 := Nat.max_eq_right hn
  have r' : mj_Rep Z U (h'.1, h'.2.1, max h.2.2 h'.2.2) H := r
  unfold mj_bump
  rw [e]
  exact r'
section MjSnd
variable {own : String} {cc : ByteArray} {nL fr : Nat} {ini : Bool} {hh : List (Nat × Nat × Nat × Nat)} {K : mj_M} {Z : mj_Z} {pc : Nat} {L : mj_L} {st : List Value} {h : mj_H}
theorem mj_run_ok (C : mj_C0 own cc nL fr ini hh K Z) {r : Option Value} {h' : mj_H} {a : Array Value} {mc ms : Nat} {H : Heap} {ls : Array Slot} {locs : List Loc} {st0 : List Value} (A : kn K ≤ h.2.1) (B : ksl K ≤ h.2.2) (rep : mj_Rep Z (ks K) h H) (f : va_S (mj_A Z.2.2.1) (ks K).heap H locs) (g : mj_Lo (mj_t Z) (kc K).maxLocals L ls)
    (hmc : mc = h'.2.1 - h.2.1) (hms : ms = h'.2.2 - h.2.2) (hr : vx_Run (kp K) (kl K) (ke K) (kR K) (ks K) (km K) (ka K) (kb K) (kmt K) (kc K) H locs (h.2.1 - kn K) (h.2.2 - ksl K) mc ms (F0 (km K) pc ls st0) (st.map (mj_tv (mj_t Z))) (mj_Qc Z r h' a) (fun _ _ _ => False) (mj_A Z.2.2.1))
    (k2 : mj_G K Z (pc + 3) L (r.toList ++ st) (mj_bump h h')) : mj_w K H locs (h.2.1 - kn K) (h.2.2 - ksl K) (F0 (km K) pc ls st0) := by
  intro T hT X
  rcases hr T hT X with ⟨v, st₀, t, T', Ls, h0, X', hLs, e1, e2, ⟨ho, hrep, hF⟩, go⟩ | ⟨q, st₀, t, T', Ls, E, ce, h0, X', hLs, e1, e2, hx, -⟩
  · have hv : v = r.map (mj_tv (mj_t Z)) := by injection ho
    obtain ⟨k1, k4, k3⟩ := vx_keep h0 e1 f (fun q _ hq => hq) (fun q hq => hq) hLs hF
    have al : (ks K).vm.Alike t.vm := by rw [← e2]; exact X'.warmed.alike
    have rep' : mj_Rep Z (ks K) h' T'.heap := by rw [e1]; exact hrep.moved al.symm
    have z1 := rep.2.1
    have z2 := rep'.2.1
    have z3 := rep.1
    have z4 := rep'.1
    have hn : h.2.1 ≤ h'.2.1 := by omega
    have n1 : h.2.1 - kn K + mc = (mj_bump h h').2.1 - kn K := by
      show _ = max h.2.1 h'.2.1 - kn K
      omega
    have n2 : h.2.2 - ksl K + ms = (mj_bump h h').2.2 - ksl K := by
      show _ = max h.2.2 h'.2.2 - ksl K
      omega
    rw [n1, n2] at X'
    obtain ⟨t2, a1, b1⟩ := k2.2.2 (by show kn K ≤ max h.2.1 h'.2.1; omega) (by show ksl K ≤ max h.2.2 h'.2.2; omega) T'.heap ls (locs ++ Ls) (rep'.bump hn) k3 g T' rfl X'
    refine ⟨t2, go t2 ?_, b1⟩
    have e3 : (r.toList ++ st).map (mj_tv (mj_t Z)) = v.toList ++ st.map (mj_tv (mj_t Z)) := by
      rw [hv]
      cases r <;> rfl
    rw [e3] at a1
    exact a1
  · exact hx.elim
theorem mj_run_x (C : mj_C0 own cc nL fr ini hh K Z) {ci : Nat} {h' : mj_H} {mc ms : Nat} {H : Heap} {ls : Array Slot} {locs : List Loc} {st0 : List Value} (A : kn K ≤ h.2.1) (B : ksl K ≤ h.2.2) (rep : mj_Rep Z (ks K) h H) (f : va_S (mj_A Z.2.2.1) (ks K).heap H locs) (g : mj_Lo (mj_t Z) (kc K).maxLocals L ls)
    (hmc : mc = h'.2.1 - h.2.1) (hms : ms = h'.2.2 - h.2.2) (hr : vx_Run (kp K) (kl K) (ke K) (kR K) (ks K) (km K) (ka K) (kb K) (kmt K) (kc K) H locs (h.2.1 - kn K) (h.2.2 - ksl K) mc ms (F0 (km K) pc ls st0) (st.map (mj_tv (mj_t Z))) (fun (_ : State) (_ : Outcome) (_ : State) => False) (mj_Xc Z ci h') (mj_A Z.2.2.1))
    (k2 : mj_GX K Z pc L (mj_bump h h') ci) : mj_w K H locs (h.2.1 - kn K) (h.2.2 - ksl K) (F0 (km K) pc ls st0) := by
  intro T hT X
  rcases hr T hT X with ⟨v, st₀, t, T', Ls, h0, X', hLs, e1, e2, hx, go⟩ | ⟨q, st₀, t, T', Ls, E, ce, h0, X', hLs, e1, e2, ⟨hE, hrep, hF⟩, hce, hcv, hcl, go⟩
  · exact hx.elim
  · subst hE
    obtain ⟨k1, k4, k3⟩ := vx_keep h0 e1 f (fun q _ hq => hq) (fun q hq => hq) hLs hF
    have al : (ks K).vm.Alike t.vm := by rw [← e2]; exact X'.warmed.alike
    have rep' : mj_Rep Z (ks K) h' T'.heap := by rw [e1]; exact hrep.moved al.symm
    have z1 := rep.2.1
    have z2 := rep'.2.1
    have z3 := rep.1
    have z4 := rep'.1
    have hn : h.2.1 ≤ h'.2.1 := by omega
    have n1 : h.2.1 - kn K + mc = (mj_bump h h').2.1 - kn K := by
      show _ = max h.2.1 h'.2.1 - kn K
      omega
    have n2 : h.2.2 - ksl K + ms = (mj_bump h h').2.2 - ksl K := by
      show _ = max h.2.2 h'.2.2 - ksl K
      omega
    rw [n1, n2] at X'
    obtain ⟨t2, a1, b1⟩ := k2.2.2 (by show kn K ≤ max h.2.1 h'.2.1; omega) (by show ksl K ≤ max h.2.2 h'.2.2; omega) T'.heap ls (locs ++ Ls) (st.map (mj_tv (mj_t Z))) q ce (rep'.bump hn) k3 g (by rw [e1]; exact hce) hcv hcl T' rfl X'
    exact ⟨t2, go.trans a1, b1⟩
theorem mj_catsum (t : Nat → Nat) (st : List Value) : ((st.map (mj_tv t)).map fun v => v.category).sum = (st.map fun v => v.category).sum := by
  rw [List.map_map]
  congr 2
  funext v
  exact mj_tv_cat _ _
theorem mj_preP (C : mj_C0 own cc nL fr ini hh K Z) {av : List Value} {H : Heap} {locs : List Loc} (rep : mj_Rep Z (ks K) h H) (f : va_S (mj_A Z.2.2.1) (ks K).heap H locs) : PreS (ks K) H (mj_Pc Z av h) (av.map (mj_tv (mj_t Z))) :=
  ⟨mj_Pc_blind Z av h, fun U hU hW => ⟨rfl, by rw [hU]; exact (C.wo.kept f.1 f.2.1).warm hW, by rw [hU]; exact rep.moved hW.alike⟩⟩
theorem mj_recv (C : mj_C0 own cc nL fr ini hh K Z) {ci b N : Nat} {Cn : String} {T : u_T} {H : Heap} (rep : mj_Rep Z (ks K) h H) (hc : mj_cl[ci]? = some (Cn, T, N)) (hci : ci < 50) (hb : (h.1 b).1 = 5 + ci) : ∃ cellB : Cell, H[mj_t Z b]? = some cellB ∧ cellB.vm.isStatics = false ∧ (ks K).vm.findClass Cn = some cellB.cls := by
  obtain ⟨i1, i2⟩ := rep.in (a := b) (by omega)
  obtain ⟨κ, r6, r7⟩ := rep.cell
  have he := mj_ws_at (t := mj_t Z) (κ := κ) (M := h.1) i1 i2
  rw [mj_e_obj hb] at he
  exact va_recv C.kk r6 hc he
theorem mj_K2_lim {res : mj_Res} (k2 : mj_K2 K Z pc L st h res) : h.2.1 ≤ kn K + (kR K).cells ∧ h.2.2 ≤ ksl K + (kR K).slots := by
  unfold mj_K2 at k2
  split at k2
  · rename_i r h'
    exact ⟨Nat.le_trans (Nat.le_max_left _ _) k2.1, Nat.le_trans (Nat.le_max_left _ _) k2.2.1⟩
  · rename_i ci h'
    exact ⟨Nat.le_trans (Nat.le_max_left _ _) k2.1, Nat.le_trans (Nat.le_max_left _ _) k2.2.1⟩
  · exact k2.elim
theorem mj_room {n n' n0 c : Nat} (A : n0 ≤ n) (k : max n n' ≤ n0 + c) : n - n0 + (n' - n) ≤ c := by omega
theorem mj_callV (C : mj_C0 own cc nL fr ini hh K Z) {y : MethodName} {ccy : ByteArray} {nLy fry idx n ci N : Nat} {rety : Option FieldType} {Cn : String} {T : u_T} {F : List Value → mj_H → mj_Res} (hS : mj_Snd y (ws_ y ccy nLy rety) fry F) (hc : mj_cl[ci]? = some (Cn, T, N)) (hci : ci < 50) (hG : GoodIn lw_all (wsV own idx Cn y (ws_ y ccy nLy rety)))
    (hd : y.cls = Cn ∧ y.cls ≠ "java/lang/invoke/MethodHandle" ∧ y.cls ≠ "java/lang/invoke/VarHandle" ∧ (parseMethodDescriptor y.desc).map (fun d => d.parameters.length) = some n) (hfr : fry + 1 ≤ fr) (hnL : nLy ≤ 80) (hst : (st.map fun v => v.category).sum ≤ 8) (d : decode cc pc = .ok (.invokevirtual idx, 3))
    {b : Nat} {As : List Value} (hb : (h.1 b).1 = 5 + ci) (hn : As.length = n) (k2 : mj_K2 K Z pc L st h (F (.ref b :: As) h)) : mj_G K Z pc L (As.reverse ++ .ref b :: st) h := by
  obtain ⟨l1, l2⟩ := mj_K2_lim k2
  refine ⟨l1, l2, fun A B H ls locs r f g => ?_⟩
  have hfrm := C.rf
  have hloc := C.lo
  have hSS := hS (kl K) C.tr Z (.ref b :: As) h
  have e0 : (As.reverse ++ .ref b :: st).map (mj_tv (mj_t Z)) = (As.map (mj_tv (mj_t Z))).reverse ++ .ref (mj_t Z b) :: st.map (mj_tv (mj_t Z)) := by simp [mj_tv]
  rw [e0]
  have hpre : PreV (ks K) H Cn (mj_t Z b) (mj_Pc Z (.ref b :: As) h) (As.map (mj_tv (mj_t Z))) := ⟨(mj_preP C r f).1, mj_recv C r hc hci hb, (mj_preP C (av := .ref b :: As) r f).2⟩
  have hW : 2 * (F0 (km K) pc ls ((As.map (mj_tv (mj_t Z))).reverse ++ .ref (mj_t Z b) :: st.map (mj_tv (mj_t Z)))).monitorRoom + ((st.map (mj_tv (mj_t Z))).map fun v => v.category).sum ≤ 8 := lv_room (by rw [mj_catsum]; exact hst)
  have hfx : CallFix (kp K) (km K) (kc K) cc nL (ks K) (ka K) lw_all own := ⟨C.ex, C.cd, C.ml, C.ow, C.ts⟩
  unfold mj_K2 at k2
  split at k2
  · rename_i ro h' hres
    rw [hres] at hSS
    exact mj_run_ok C A B r f g rfl rfl (vx_runV (b := mj_t Z b) (As := As.map (mj_tv (mj_t Z))) hfx hSS (cwV n C.ts hG rfl rfl rfl hd ⟨by show fry + 1 ≤ _; omega, by show 8 + (nLy + 11) + 100 * fry ≤ _; omega⟩) hpre rfl (by simpa using hn) (g.1.trans C.ml) rfl hW d ⟨mj_room A k2.1, mj_room B k2.2.1⟩) k2
  · rename_i ce h' hres
    rw [hres] at hSS
    exact mj_run_x C A B r f g rfl rfl (vx_runV (b := mj_t Z b) (As := As.map (mj_tv (mj_t Z))) hfx hSS (cwV n C.ts hG rfl rfl rfl hd ⟨by show fry + 1 ≤ _; omega, by show 8 + (nLy + 11) + 100 * fry ≤ _; omega⟩) hpre rfl (by simpa using hn) (g.1.trans C.ml) rfl hW d ⟨mj_room A k2.1, mj_room B k2.2.1⟩) k2
  · exact k2.elim
theorem mj_callVX (C : mj_C0 own cc nL fr ini hh K Z) {y : MethodName} {ccy : ByteArray} {nLy fry idx n ci N : Nat} {rety : Option FieldType} {hhy : List (Nat × Nat × Nat × Nat)} {Cn : String} {T : u_T} {F : List Value → mj_H → mj_Res} (hS : mj_Snd y (wsW_ y ccy nLy rety hhy) fry F) (hc : mj_cl[ci]? = some (Cn, T, N)) (hci : ci < 50) (hG : GoodIn lw_all (wsV own idx Cn y (wsW_ y ccy nLy rety hhy)))
    (hd : y.cls = Cn ∧ y.cls ≠ "java/lang/invoke/MethodHandle" ∧ y.cls ≠ "java/lang/invoke/VarHandle" ∧ (parseMethodDescriptor y.desc).map (fun d => d.parameters.length) = some n) (hfr : fry + 1 ≤ fr) (hnL : nLy ≤ 80) (hst : (st.map fun v => v.category).sum ≤ 8) (d : decode cc pc = .ok (.invokevirtual idx, 3))
    {b : Nat} {As : List Value} (hb : (h.1 b).1 = 5 + ci) (hn : As.length = n) (k2 : mj_K2 K Z pc L st h (F (.ref b :: As) h)) : mj_G K Z pc L (As.reverse ++ .ref b :: st) h := by
  obtain ⟨l1, l2⟩ := mj_K2_lim k2
  refine ⟨l1, l2, fun A B H ls locs r f g => ?_⟩
  have hfrm := C.rf
  have hloc := C.lo
  have hSS := hS (kl K) C.tr Z (.ref b :: As) h
  have e0 : (As.reverse ++ .ref b :: st).map (mj_tv (mj_t Z)) = (As.map (mj_tv (mj_t Z))).reverse ++ .ref (mj_t Z b) :: st.map (mj_tv (mj_t Z)) := by simp [mj_tv]
  rw [e0]
  have hpre : PreV (ks K) H Cn (mj_t Z b) (mj_Pc Z (.ref b :: As) h) (As.map (mj_tv (mj_t Z))) := ⟨(mj_preP C r f).1, mj_recv C r hc hci hb, (mj_preP C (av := .ref b :: As) r f).2⟩
  have hW : 2 * (F0 (km K) pc ls ((As.map (mj_tv (mj_t Z))).reverse ++ .ref (mj_t Z b) :: st.map (mj_tv (mj_t Z)))).monitorRoom + ((st.map (mj_tv (mj_t Z))).map fun v => v.category).sum ≤ 8 := lv_room (by rw [mj_catsum]; exact hst)
  have hfx : CallFix (kp K) (km K) (kc K) cc nL (ks K) (ka K) lw_all own := ⟨C.ex, C.cd, C.ml, C.ow, C.ts⟩
  unfold mj_K2 at k2
  split at k2
  · rename_i ro h' hres
    rw [hres] at hSS
    exact mj_run_ok C A B r f g rfl rfl (vx_runVX (b := mj_t Z b) (As := As.map (mj_tv (mj_t Z))) hfx hSS (vx_cwVW n C.ts hG rfl rfl rfl hd ⟨by show fry + 1 ≤ _; omega, by show 8 + (nLy + 11) + 100 * fry ≤ _; omega⟩) hpre rfl (by simpa using hn) (g.1.trans C.ml) rfl hW d ⟨mj_room A k2.1, mj_room B k2.2.1⟩) k2
  · rename_i ce h' hres
    rw [hres] at hSS
    exact mj_run_x C A B r f g rfl rfl (vx_runVX (b := mj_t Z b) (As := As.map (mj_tv (mj_t Z))) hfx hSS (vx_cwVW n C.ts hG rfl rfl rfl hd ⟨by show fry + 1 ≤ _; omega, by show 8 + (nLy + 11) + 100 * fry ≤ _; omega⟩) hpre rfl (by simpa using hn) (g.1.trans C.ml) rfl hW d ⟨mj_room A k2.1, mj_room B k2.2.1⟩) k2
  · exact k2.elim
theorem mj_callS (C : mj_C0 own cc nL fr ini hh K Z) {y : MethodName} {ccy : ByteArray} {nLy fry idx n : Nat} {rety : Option FieldType} {F : List Value → mj_H → mj_Res} (hS : mj_Snd y (ws_ y ccy nLy rety) fry F) (hG : GoodIn lw_all (va_wsS own idx y (ws_ y ccy nLy rety)))
    (hd : y.cls ≠ "java/lang/invoke/MethodHandle" ∧ y.cls ≠ "java/lang/invoke/VarHandle" ∧ (parseMethodDescriptor y.desc).map (fun d => d.parameters.length) = some n) (hfr : fry + 1 ≤ fr) (hnL : nLy ≤ 80) (hst : (st.map fun v => v.category).sum ≤ 8) (d : decode cc pc = .ok (.invokestatic idx, 3))
    {As : List Value} (hn : As.length = n) (k2 : mj_K2 K Z pc L st h (F As h)) : mj_G K Z pc L (As.reverse ++ st) h := by
  obtain ⟨l1, l2⟩ := mj_K2_lim k2
  refine ⟨l1, l2, fun A B H ls locs r f g => ?_⟩
  have hfrm := C.rf
  have hloc := C.lo
  have hSS := hS (kl K) C.tr Z As h
  have e0 : (As.reverse ++ st).map (mj_tv (mj_t Z)) = (As.map (mj_tv (mj_t Z))).reverse ++ st.map (mj_tv (mj_t Z)) := by simp
  rw [e0]
  have hW : 2 * (F0 (km K) pc ls ((As.map (mj_tv (mj_t Z))).reverse ++ st.map (mj_tv (mj_t Z)))).monitorRoom + ((st.map (mj_tv (mj_t Z))).map fun v => v.category).sum ≤ 8 := lv_room (by rw [mj_catsum]; exact hst)
  have hfx : CallFix (kp K) (km K) (kc K) cc nL (ks K) (ka K) lw_all own := ⟨C.ex, C.cd, C.ml, C.ow, C.ts⟩
  unfold mj_K2 at k2
  split at k2
  · rename_i ro h' hres
    rw [hres] at hSS
    exact mj_run_ok C A B r f g rfl rfl (vx_runS (As := As.map (mj_tv (mj_t Z))) hfx hSS (va_cwS n C.ts hG rfl rfl rfl hd ⟨by show fry + 1 ≤ _; omega, by show 8 + (nLy + 11) + 100 * fry ≤ _; omega⟩) (mj_preP C r f) rfl (by simpa using hn) (g.1.trans C.ml) rfl hW d ⟨mj_room A k2.1, mj_room B k2.2.1⟩) k2
  · rename_i ce h' hres
    rw [hres] at hSS
    exact mj_run_x C A B r f g rfl rfl (vx_runS (As := As.map (mj_tv (mj_t Z))) hfx hSS (va_cwS n C.ts hG rfl rfl rfl hd ⟨by show fry + 1 ≤ _; omega, by show 8 + (nLy + 11) + 100 * fry ≤ _; omega⟩) (mj_preP C r f) rfl (by simpa using hn) (g.1.trans C.ml) rfl hW d ⟨mj_room A k2.1, mj_room B k2.2.1⟩) k2
  · exact k2.elim
theorem mj_callSX (C : mj_C0 own cc nL fr ini hh K Z) {y : MethodName} {ccy : ByteArray} {nLy fry idx n : Nat} {rety : Option FieldType} {hhy : List (Nat × Nat × Nat × Nat)} {F : List Value → mj_H → mj_Res} (hS : mj_Snd y (wsW_ y ccy nLy rety hhy) fry F) (hG : GoodIn lw_all (va_wsS own idx y (wsW_ y ccy nLy rety hhy)))
    (hd : y.cls ≠ "java/lang/invoke/MethodHandle" ∧ y.cls ≠ "java/lang/invoke/VarHandle" ∧ (parseMethodDescriptor y.desc).map (fun d => d.parameters.length) = some n) (hfr : fry + 1 ≤ fr) (hnL : nLy ≤ 80) (hst : (st.map fun v => v.category).sum ≤ 8) (d : decode cc pc = .ok (.invokestatic idx, 3))
    {As : List Value} (hn : As.length = n) (k2 : mj_K2 K Z pc L st h (F As h)) : mj_G K Z pc L (As.reverse ++ st) h := by
  obtain ⟨l1, l2⟩ := mj_K2_lim k2
  refine ⟨l1, l2, fun A B H ls locs r f g => ?_⟩
  have hfrm := C.rf
  have hloc := C.lo
  have hSS := hS (kl K) C.tr Z As h
  have e0 : (As.reverse ++ st).map (mj_tv (mj_t Z)) = (As.map (mj_tv (mj_t Z))).reverse ++ st.map (mj_tv (mj_t Z)) := by simp
  rw [e0]
  have hW : 2 * (F0 (km K) pc ls ((As.map (mj_tv (mj_t Z))).reverse ++ st.map (mj_tv (mj_t Z)))).monitorRoom + ((st.map (mj_tv (mj_t Z))).map fun v => v.category).sum ≤ 8 := lv_room (by rw [mj_catsum]; exact hst)
  have hfx : CallFix (kp K) (km K) (kc K) cc nL (ks K) (ka K) lw_all own := ⟨C.ex, C.cd, C.ml, C.ow, C.ts⟩
  unfold mj_K2 at k2
  split at k2
  · rename_i ro h' hres
    rw [hres] at hSS
    exact mj_run_ok C A B r f g rfl rfl (vx_runSX (As := As.map (mj_tv (mj_t Z))) hfx hSS (vx_cwSW n C.ts hG rfl rfl rfl hd ⟨by show fry + 1 ≤ _; omega, by show 8 + (nLy + 11) + 100 * fry ≤ _; omega⟩) (mj_preP C r f) rfl (by simpa using hn) (g.1.trans C.ml) rfl hW d ⟨mj_room A k2.1, mj_room B k2.2.1⟩) k2
  · rename_i ce h' hres
    rw [hres] at hSS
    exact mj_run_x C A B r f g rfl rfl (vx_runSX (As := As.map (mj_tv (mj_t Z))) hfx hSS (vx_cwSW n C.ts hG rfl rfl rfl hd ⟨by show fry + 1 ≤ _; omega, by show 8 + (nLy + 11) + 100 * fry ≤ _; omega⟩) (mj_preP C r f) rfl (by simpa using hn) (g.1.trans C.ml) rfl hW d ⟨mj_room A k2.1, mj_room B k2.2.1⟩) k2
  · exact k2.elim
/-- a constructor, of the class itself or of a nest mate -/
theorem mj_callI (C : mj_C0 own cc nL fr ini hh K Z) {y : MethodName} {ccy : ByteArray} {nLy fry idx n : Nat} {F : List Value → mj_H → mj_Res} (hS : mj_Snd y (ws_ y ccy nLy none) fry F) (hG : GoodIn lw_all (ws_ y ccy nLy none)) (q1 : Jvm.Cond.initialized y.cls ∈ lw_all) (q2 : Jvm.Cond.methodLink own idx y ∈ lw_all) (q3 : Jvm.Cond.instanceMethod y ∈ lw_all) (hy1 : y.name = "<init>")
    (hd : y.cls ≠ "java/lang/invoke/MethodHandle" ∧ y.cls ≠ "java/lang/invoke/VarHandle" ∧ (parseMethodDescriptor y.desc).map (fun d => d.parameters.length) = some n) (hfr : fry + 1 ≤ fr) (hnL : nLy ≤ 80) (hst : (st.map fun v => v.category).sum ≤ 8) (d : decode cc pc = .ok (.invokespecial idx, 3))
    {b : Nat} {As : List Value} (hn : As.length = n) (k2 : mj_K2 K Z pc L st h (F (.ref b :: As) h)) : mj_G K Z pc L (As.reverse ++ .ref b :: st) h := by
  obtain ⟨l1, l2⟩ := mj_K2_lim k2
  refine ⟨l1, l2, fun A B H ls locs r f g => ?_⟩
  have hfrm := C.rf
  have hloc := C.lo
  have hSS := hS (kl K) C.tr Z (.ref b :: As) h
  have e0 : (As.reverse ++ .ref b :: st).map (mj_tv (mj_t Z)) = (As.map (mj_tv (mj_t Z))).reverse ++ .ref (mj_t Z b) :: st.map (mj_tv (mj_t Z)) := by simp [mj_tv]
  rw [e0]
  have hW : 2 * (F0 (km K) pc ls ((As.map (mj_tv (mj_t Z))).reverse ++ .ref (mj_t Z b) :: st.map (mj_tv (mj_t Z)))).monitorRoom + ((st.map (mj_tv (mj_t Z))).map fun v => v.category).sum ≤ 8 := lv_room (by rw [mj_catsum]; exact hst)
  have hfx : CallFix (kp K) (km K) (kc K) cc nL (ks K) (ka K) lw_all own := ⟨C.ex, C.cd, C.ml, C.ow, C.ts⟩
  unfold mj_K2 at k2
  split at k2
  · rename_i ro h' hres
    rw [hres] at hSS
    exact mj_run_ok C A B r f g rfl rfl (vx_runI (b := mj_t Z b) (As := As.map (mj_tv (mj_t Z))) hfx hSS (cwI n C.ts hG rfl rfl rfl (C.ts _ q1) (C.ts _ q2) (C.ts _ q3) hy1 hd ⟨by show fry + 1 ≤ _; omega, by show 8 + (nLy + 11) + 100 * fry ≤ _; omega⟩) (mj_preP C (av := .ref b :: As) r f) rfl (by simpa using hn) (g.1.trans C.ml) rfl hW d ⟨mj_room A k2.1, mj_room B k2.2.1⟩) k2
  · rename_i ce h' hres
    rw [hres] at hSS
    exact mj_run_x C A B r f g rfl rfl (vx_runI (b := mj_t Z b) (As := As.map (mj_tv (mj_t Z))) hfx hSS (cwI n C.ts hG rfl rfl rfl (C.ts _ q1) (C.ts _ q2) (C.ts _ q3) hy1 hd ⟨by show fry + 1 ≤ _; omega, by show 8 + (nLy + 11) + 100 * fry ≤ _; omega⟩) (mj_preP C (av := .ref b :: As) r f) rfl (by simpa using hn) (g.1.trans C.ml) rfl hW d ⟨mj_room A k2.1, mj_room B k2.2.1⟩) k2
  · exact k2.elim
theorem mj_callIN (C : mj_C0 own cc nL fr ini hh K Z) {y : MethodName} {ccy : ByteArray} {nLy fry idx n : Nat} {host : String} {F : List Value → mj_H → mj_Res} (hS : mj_Snd y (ws_ y ccy nLy none) fry F) (hG : GoodIn lw_all (ws_ y ccy nLy none)) (q1 : Jvm.Cond.initialized y.cls ∈ lw_all) (q2 : Jvm.Cond.methodLinkNest own idx y host ∈ mj_nest) (q3 : Jvm.Cond.instanceMethod y ∈ lw_all) (hy1 : y.name = "<init>")
    (hd : y.cls ≠ "java/lang/invoke/MethodHandle" ∧ y.cls ≠ "java/lang/invoke/VarHandle" ∧ (parseMethodDescriptor y.desc).map (fun d => d.parameters.length) = some n) (hfr : fry + 1 ≤ fr) (hnL : nLy ≤ 80) (hst : (st.map fun v => v.category).sum ≤ 8) (d : decode cc pc = .ok (.invokespecial idx, 3))
    {b : Nat} {As : List Value} (hn : As.length = n) (k2 : mj_K2 K Z pc L st h (F (.ref b :: As) h)) : mj_G K Z pc L (As.reverse ++ .ref b :: st) h := by
  obtain ⟨l1, l2⟩ := mj_K2_lim k2
  refine ⟨l1, l2, fun A B H ls locs r f g => ?_⟩
  have hfrm := C.rf
  have hloc := C.lo
  have hSS := hS (kl K) C.tr Z (.ref b :: As) h
  have e0 : (As.reverse ++ .ref b :: st).map (mj_tv (mj_t Z)) = (As.map (mj_tv (mj_t Z))).reverse ++ .ref (mj_t Z b) :: st.map (mj_tv (mj_t Z)) := by simp [mj_tv]
  rw [e0]
  have hW : 2 * (F0 (km K) pc ls ((As.map (mj_tv (mj_t Z))).reverse ++ .ref (mj_t Z b) :: st.map (mj_tv (mj_t Z)))).monitorRoom + ((st.map (mj_tv (mj_t Z))).map fun v => v.category).sum ≤ 8 := lv_room (by rw [mj_catsum]; exact hst)
  have hfx : CallFix (kp K) (km K) (kc K) cc nL (ks K) (ka K) lw_all own := ⟨C.ex, C.cd, C.ml, C.ow, C.ts⟩
  have hq : va_Nw (.methodLinkNest own idx y host) (ks K) := C.wo.2.2.2.2.2.2.2.2.1 _ q2
  unfold mj_K2 at k2
  split at k2
  · rename_i ro h' hres
    rw [hres] at hSS
    exact mj_run_ok C A B r f g rfl rfl (vx_runIN (b := mj_t Z b) (As := As.map (mj_tv (mj_t Z))) hfx hSS ⟨va_cnB n C.ts hG rfl rfl rfl hq (C.ts _ q1) hd ⟨by show fry + 1 ≤ _; omega, by show 8 + (nLy + 11) + 100 * fry ≤ _; omega⟩, hy1, C.ts _ q3⟩ (mj_preP C (av := .ref b :: As) r f) rfl (by simpa using hn) (g.1.trans C.ml) rfl hW d ⟨mj_room A k2.1, mj_room B k2.2.1⟩) k2
  · rename_i ce h' hres
    rw [hres] at hSS
    exact mj_run_x C A B r f g rfl rfl (vx_runIN (b := mj_t Z b) (As := As.map (mj_tv (mj_t Z))) hfx hSS ⟨va_cnB n C.ts hG rfl rfl rfl hq (C.ts _ q1) hd ⟨by show fry + 1 ≤ _; omega, by show 8 + (nLy + 11) + 100 * fry ≤ _; omega⟩, hy1, C.ts _ q3⟩ (mj_preP C (av := .ref b :: As) r f) rfl (by simpa using hn) (g.1.trans C.ml) rfl hW d ⟨mj_room A k2.1, mj_room B k2.2.1⟩) k2
  · exact k2.elim
end MjSnd
