/-! String.length and charAt of the String constants, as the JDK's code -/
abbrev jd_P (Z : mj_Z) (A0 : List Value) : Array Value → State → Prop := fun v U => v = A0.toArray ∧ mj_W Z U U.heap
abbrev jd_Q (v : Option Value) : Array Value → State → Outcome → State → Prop := fun _ st o t => o = .returned v ∧ t.heap = st.heap
theorem jd_blind (Z : mj_Z) (A0 : List Value) : FrameBlind (jd_P Z A0) := fun a U g mk q => ⟨q.1, mj_W.same (s := U) (U := U.calling g mk a) rfl q.2⟩
section Jd
variable {p : Program} {l : Launch} {e : Env} {R : Room} {s : State} {m : MethodId} {args : Array Value} {below : List Frame} {meth : Method} {c : Code} {H : Heap} {locs : List Loc} {cells slots : Nat} {Q : State → Prop}
theorem jd_run {pc : Nat} {ls : Array Slot} {st0 rest : List Value} {v : Option Value} {a : Array Value} (hr : va_Run p l e R s m args below meth c H locs cells slots 0 0 (F0 m pc ls st0) rest (jd_Q v a) (fun _ => False)) (k : W p l e R s m args below meth c H locs cells slots Q (F0 m (pc + 3) ls (v.toList ++ rest))) : W p l e R s m args below meth c H locs cells slots Q (F0 m pc ls st0) := by
  intro T hT X
  obtain ⟨v', st₀, t, T', L, h0, X', hL, e1, e2, ⟨ho, hh⟩, go⟩ := hr T hT X
  have hv : v' = v := by injection ho
  have hLn : L = [] := by
    cases L with
    | nil => rfl
    | cons x L => exact (hL x List.mem_cons_self).elim
  subst hLn
  rw [List.append_nil] at X'
  obtain ⟨t2, a1, b1⟩ := k T' (e1.trans (hh.trans h0)) X'
  rw [← hv] at a1
  exact ⟨t2, go t2 a1, b1⟩
end Jd
theorem jd_pre {Z : mj_Z} {s : State} {H : Heap} (hw : mj_W Z s s.heap) (hH : s.heap = H) (As : List Value) : PreS s H (jd_P Z As) As := ⟨jd_blind Z As, fun U hU hW => ⟨rfl, by rw [hU, ← hH]; exact hw.warm hW⟩⟩
theorem jd_recv {Z : mj_Z} {s : State} {H : Heap} {locs : List Loc} (hw : mj_W Z s s.heap) {i : Nat} (hi : i < 26) (hS : va_S (mj_A Z.2.2.1) s.heap H locs) : ∃ cellB : Cell, H[Z.2.2.2.2.2 i]? = some cellB ∧ cellB.vm.isStatics = false ∧ s.vm.findClass RJ5 = some cellB.cls := by
  obtain ⟨cell, h1, h2, h3, -⟩ := (hw.2.1 i hi).1.kept hS.2.1
  exact ⟨cell, h1, h2, h3⟩
theorem jd_isLatin1 (l : Launch) (Z : mj_Z) {i : Nat} (hi : i < 26) : Met l yJ5_isLatin1 (ws_ yJ5_isLatin1 cJ5_isLatin1 1 (some .boolean)) { frames := 1, cells := 0, slots := 0, locals := 100 } (jd_P Z [.ref (Z.2.2.2.2.2 i)]) (jd_Q (some (.int 1))) 0 0 (fun _ => False) := by
  refine Met.ofW (cc := cJ5_isLatin1) (maxL := 1) (ret := some .boolean) (by decide) rfl ?_
  intro p e s m args below meth c s₁ B hml hv
  obtain ⟨rfl, hw⟩ := hv
  have hx := B.exec
  have hb := B.bytes
  have hr := B.returns
  have hts := atoms_spec (ws := ws_ yJ5_isLatin1 cJ5_isLatin1 1 (some .boolean)) B.pre
  have hts : ∀ w ∈ lw_all, w.before _ s = true := fun w h => hts w (List.mem_cons_of_mem _ h)
  have hown : s.vm.findClass RJ5 = some m.cls := findClass_of_methodNamed B.named
  have hlocks := B.notSynchronized
  have hl := lv_entry ([.ref (Z.2.2.2.2.2 i)]) (n := 1) (Nat.le_of_ble_eq_true rfl)
  rw [lg_entry_eq]
  generalize (lg_sl ([.ref (Z.2.2.2.2.2 i)]) ++ List.replicate (1 - (lg_sl ([.ref (Z.2.2.2.2.2 i)])).length) Slot.unset).toArray = ls at hl ⊢
  refine va_gets hx hb hw.2.2.2.1 va_S.rf hown (hts _ q465) (fun x h => h) dJ5_isLatin1_0 ?_
  refine lv_if_eq (tgt := 17) hx hb dJ5_isLatin1_3 (by decide) (fun c => absurd c (by decide)) (fun _ => ?_)
  refine lv_aload_n hx hb dJ5_isLatin1_6 rfl (lv_at hl 0 rfl) ?_
  refine vk_getf hx hb (hw.2.1 i hi).2.1 va_S.rf hown (hts _ q1831) (fun x h => h) dJ5_isLatin1_7 ?_
  refine lv_if_ne (tgt := 17) hx hb dJ5_isLatin1_10 (by decide) (fun c => absurd rfl c) (fun _ => ?_)
  refine lv_iconst (v := 1) hx hb dJ5_isLatin1_13 rfl ?_
  refine lv_goto (tgt := 18) hx hb dJ5_isLatin1_14 (by decide) ?_
  exact W.zret hx hb hr rfl (fun t ht hW => ⟨rfl, ht⟩) (fun q h => nomatch h) dJ5_isLatin1_18
theorem jd_coder (l : Launch) (Z : mj_Z) {i : Nat} (hi : i < 26) : Met l yJ5_coder (ws_ yJ5_coder cJ5_coder 1 (some .byte)) { frames := 1, cells := 0, slots := 0, locals := 100 } (jd_P Z [.ref (Z.2.2.2.2.2 i)]) (jd_Q (some (.int 0))) 0 0 (fun _ => False) := by
  refine Met.ofW (cc := cJ5_coder) (maxL := 1) (ret := some .byte) (by decide) rfl ?_
  intro p e s m args below meth c s₁ B hml hv
  obtain ⟨rfl, hw⟩ := hv
  have hx := B.exec
  have hb := B.bytes
  have hr := B.returns
  have hts := atoms_spec (ws := ws_ yJ5_coder cJ5_coder 1 (some .byte)) B.pre
  have hts : ∀ w ∈ lw_all, w.before _ s = true := fun w h => hts w (List.mem_cons_of_mem _ h)
  have hown : s.vm.findClass RJ5 = some m.cls := findClass_of_methodNamed B.named
  have hlocks := B.notSynchronized
  have hl := lv_entry ([.ref (Z.2.2.2.2.2 i)]) (n := 1) (Nat.le_of_ble_eq_true rfl)
  rw [lg_entry_eq]
  generalize (lg_sl ([.ref (Z.2.2.2.2.2 i)]) ++ List.replicate (1 - (lg_sl ([.ref (Z.2.2.2.2.2 i)])).length) Slot.unset).toArray = ls at hl ⊢
  refine va_gets hx hb hw.2.2.2.1 va_S.rf hown (hts _ q465) (fun x h => h) dJ5_coder_0 ?_
  refine lv_if_eq (tgt := 13) hx hb dJ5_coder_3 (by decide) (fun c => absurd c (by decide)) (fun _ => ?_)
  refine lv_aload_n hx hb dJ5_coder_6 rfl (lv_at hl 0 rfl) ?_
  refine vk_getf hx hb (hw.2.1 i hi).2.1 va_S.rf hown (hts _ q1831) (fun x h => h) dJ5_coder_7 ?_
  refine lv_goto (tgt := 14) hx hb dJ5_coder_10 (by decide) ?_
  exact W.zret hx hb hr rfl (fun t ht hW => ⟨rfl, ht⟩) (fun q h => nomatch h) dJ5_coder_14
theorem jd_pcheck (l : Launch) (Z : mj_Z) {k n : Int32} {b : Value} (hb : b = .null ∨ ∃ q, b = .ref q) (h0 : ¬ k < 0) (h1 : k < n) : Met l yJ7_checkIndex (ws_ yJ7_checkIndex cJ7_checkIndex 3 (some .int)) { frames := 1, cells := 0, slots := 0, locals := 100 } (jd_P Z [.int k, .int n, b]) (jd_Q (some (.int k))) 0 0 (fun _ => False) := by
  refine Met.ofW (cc := cJ7_checkIndex) (maxL := 3) (ret := some .int) (by decide) rfl ?_
  intro p e s m args below meth c s₁ B hml hv
  obtain ⟨rfl, hw⟩ := hv
  have hx := B.exec
  have hbb := B.bytes
  have hr := B.returns
  have hlocks := B.notSynchronized
  have hl : ∃ ls : Array Slot, entryFrame m ([.int k, .int n, b] : List Value).toArray 3 = F0 m 0 ls [] ∧ lv_has ls 3 [(0, .int k), (1, .int n), (2, b)] := by
    refine ⟨_, lg_entry_eq _ _ _, ?_⟩
    rcases hb with rfl | ⟨q, rfl⟩
    · exact lv_entry ([.int k, .int n, .null]) (n := 3) (Nat.le_of_ble_eq_true rfl)
    · exact lv_entry ([.int k, .int n, .ref q]) (n := 3) (Nat.le_of_ble_eq_true rfl)
  obtain ⟨ls, e0, hl⟩ := hl
  rw [e0]
  refine lv_iload_n hx hbb dJ7_checkIndex_0 rfl (lv_at hl 0 rfl) ?_
  refine lv_if_lt (tgt := 9) hx hbb dJ7_checkIndex_1 (by decide) (fun c => absurd c h0) (fun _ => ?_)
  refine lv_iload_n hx hbb dJ7_checkIndex_4 rfl (lv_at hl 0 rfl) ?_
  refine lv_iload_n hx hbb dJ7_checkIndex_5 rfl (lv_at hl 1 rfl) ?_
  refine lv_icmp_lt (tgt := 16) hx hbb dJ7_checkIndex_6 (by decide) (fun _ => ?_) (fun c => absurd h1 c)
  refine lv_iload_n hx hbb dJ7_checkIndex_16 rfl (lv_at hl 0 rfl) ?_
  exact W.zret hx hbb hr rfl (fun t ht hW => ⟨rfl, ht⟩) (fun q h => nomatch h) dJ7_checkIndex_17
theorem jd_check (l : Launch) (Z : mj_Z) {k n : Int32} (h0 : ¬ k < 0) (h1 : k < n) : Met l yJ5_checkIndex (ws_ yJ5_checkIndex cJ5_checkIndex 2 none) { frames := 2, cells := 0, slots := 0, locals := 300 } (jd_P Z [.int k, .int n]) (jd_Q none) 0 0 (fun _ => False) := by
  refine Met.ofW (cc := cJ5_checkIndex) (maxL := 2) (ret := none) (by decide) rfl ?_
  intro p e s m args below meth c s₁ B hml hv
  obtain ⟨rfl, hw⟩ := hv
  have hx := B.exec
  have hb := B.bytes
  have hr := B.returns
  have hts := atoms_spec (ws := ws_ yJ5_checkIndex cJ5_checkIndex 2 none) B.pre
  have hts : ∀ w ∈ lw_all, w.before _ s = true := fun w h => hts w (List.mem_cons_of_mem _ h)
  have hown : s.vm.findClass RJ5 = some m.cls := findClass_of_methodNamed B.named
  have hlocks := B.notSynchronized
  have hl := lv_entry ([.int k, .int n]) (n := 2) (Nat.le_of_ble_eq_true rfl)
  rw [lg_entry_eq]
  generalize (lg_sl ([.int k, .int n]) ++ List.replicate (2 - (lg_sl ([.int k, .int n])).length) Slot.unset).toArray = ls at hl ⊢
  refine lv_iload_n hx hb dJ5_checkIndex_0 rfl (lv_at hl 0 rfl) ?_
  refine lv_iload_n hx hb dJ5_checkIndex_1 rfl (lv_at hl 1 rfl) ?_
  have fin : ∀ bv : Value, (bv = .null ∨ ∃ q, bv = .ref q) → W p l e (headSpec (ws_ yJ5_checkIndex cJ5_checkIndex 2 none) { frames := 2, cells := 0, slots := 0, locals := 300 }).room s m ([.int k, .int n] : List Value).toArray below meth c s.heap [] 0 0 (MQ below (jd_Q none) ([.int k, .int n] : List Value).toArray s 0 0 (fun _ => False)) (F0 m 5 ls [bv, .int n, .int k]) := by
    intro bv hbv
    refine jd_run (v := some (.int k)) (rest := []) (va_runS (As := [.int k, .int n, bv]) (rest := []) ⟨hx, hb, hml, hown, hts⟩ (jd_pcheck l Z hbv h0 h1) (va_cwS 3 hts (lw_S q483 q484 q129 q485) rfl rfl rfl (by decide +kernel) ⟨Nat.le_of_ble_eq_true rfl, Nat.le_of_ble_eq_true rfl⟩) (jd_pre hw rfl _) rfl rfl hl.1 rfl (lv_room (Nat.le_of_ble_eq_true rfl)) dJ5_checkIndex_5 ⟨Nat.le_refl _, Nat.le_refl _⟩) ?_
    refine lv_pop hx hb dJ5_checkIndex_8 rfl ?_
    exact W.vret hx hb hr (fun t ht hW => ⟨rfl, ht⟩) (fun q h => nomatch h) dJ5_checkIndex_9
  rcases hw.2.2.2.2.1 with hz | ⟨q, hz⟩
  · exact va_gets hx hb hz va_S.rf hown (hts _ q481) (fun x h => h) dJ5_checkIndex_2 (fin _ (Or.inl rfl))
  · exact va_gets hx hb hz va_S.rf hown (hts _ q481) (fun x h => h) dJ5_checkIndex_2 (fin _ (Or.inr ⟨q, rfl⟩))
abbrev jd_P2 (Z : mj_Z) (A0 : List Value) (v len : Nat) (f : Nat → Int32) : Array Value → State → Prop := fun x U => x = A0.toArray ∧ mj_W Z U U.heap ∧ va_T .byte v len (fun j => .int (f j)) (mj_A Z.2.2.1) U U.heap
theorem jd_blind2 (Z : mj_Z) (A0 : List Value) (v len : Nat) (f : Nat → Int32) : FrameBlind (jd_P2 Z A0 v len f) := fun a U g mk q => ⟨q.1, mj_W.same (s := U) (U := U.calling g mk a) rfl q.2.1, va_T.moved (u := U) (U := U.calling g mk a) (Vm.Alike.refl U.vm) q.2.2⟩
theorem jd_lcharAt (l : Launch) (Z : mj_Z) {v len : Nat} {k : Int32} {f : Nat → Int32} (hlen : len < 2 ^ 31) (hk : vp_in k len) : Met l yJ6_charAt (ws_ yJ6_charAt cJ6_charAt 2 (some .char)) { frames := 3, cells := 0, slots := 0, locals := 500 } (jd_P2 Z [.ref v, .int k] v len f) (jd_Q (some (.int (f k.toNatClampNeg &&& 255)))) 0 0 (fun _ => False) := by
  refine Met.ofW (cc := cJ6_charAt) (maxL := 2) (ret := some .char) (by decide) rfl ?_
  intro p e s m args below meth c s₁ B hml hv
  obtain ⟨rfl, hw, hT⟩ := hv
  have hx := B.exec
  have hb := B.bytes
  have hr := B.returns
  have hts := atoms_spec (ws := ws_ yJ6_charAt cJ6_charAt 2 (some .char)) B.pre
  have hts : ∀ w ∈ lw_all, w.before _ s = true := fun w h => hts w (List.mem_cons_of_mem _ h)
  have hown : s.vm.findClass RJ6 = some m.cls := findClass_of_methodNamed B.named
  have hlocks := B.notSynchronized
  have hl := lv_entry ([.ref v, .int k]) (n := 2) (Nat.le_of_ble_eq_true rfl)
  rw [lg_entry_eq]
  generalize (lg_sl ([.ref v, .int k]) ++ List.replicate (2 - (lg_sl ([.ref v, .int k])).length) Slot.unset).toArray = ls at hl ⊢
  obtain ⟨j, hj, rfl⟩ := vp_in_of hk hlen
  refine lv_iload_n hx hb dJ6_charAt_0 rfl (lv_at hl 1 rfl) ?_
  refine lv_aload_n hx hb dJ6_charAt_1 rfl (lv_at hl 0 rfl) ?_
  refine va_tlen hx hb hT va_S.rf rfl dJ6_charAt_2 ?_
  refine jd_run (v := none) (rest := []) (va_runS (As := [.int (nI j), .int (Int32.ofNat len)]) (rest := []) ⟨hx, hb, hml, hown, hts⟩ (jd_check l Z (nI_pos (by omega)) (nI_lt hj hlen)) (va_cwS 2 hts (lw_S q478 q479 q127 q480) rfl rfl rfl (by decide +kernel) ⟨Nat.le_of_ble_eq_true rfl, Nat.le_of_ble_eq_true rfl⟩) (jd_pre hw rfl _) rfl rfl hl.1 rfl (lv_room (Nat.le_of_ble_eq_true rfl)) dJ6_charAt_3 ⟨Nat.le_refl _, Nat.le_refl _⟩) ?_
  refine lv_aload_n hx hb dJ6_charAt_6 rfl (lv_at hl 0 rfl) ?_
  refine lv_iload_n hx hb dJ6_charAt_7 rfl (lv_at hl 1 rfl) ?_
  refine va_tb hx hb hT va_S.rf hk rfl dJ6_charAt_8 ?_
  refine lv_sipush (v := 255) hx hb dJ6_charAt_9 (by decide) ?_
  refine lv_iand hx hb dJ6_charAt_12 ?_
  refine lv_i2c hx hb dJ6_charAt_13 (sc_c2 _) ?_
  exact W.zret hx hb hr (sc_nar _) (fun t ht hW => ⟨rfl, ht⟩) (fun q h => nomatch h) dJ6_charAt_14
/-- length(), charAt(k) of a String constant -/
def mj_strlen : List Value → mj_H → mj_Res := fun av h => match av with
  | [.ref i] => if i < 26 then .ok (some (.int (Int32.ofNat (mj_by i).length))) h else .error none h
  | _ => .error none h
def mj_strchr : List Value → mj_H → mj_Res := fun av h => match av with
  | [.ref i, .int k] => if i < 26 ∧ 0 ≤ k.toInt ∧ k.toInt < ((mj_by i).length : Int) then .ok (some (.int ((mj_by i).getD k.toNatClampNeg 0 &&& 255))) h else .error none h
  | _ => .error none h
theorem mj_strlen_ok {av : List Value} {h h' : mj_H} {r : Option Value} (hF : mj_strlen av h = .ok r h') : ∃ i, av = [.ref i] ∧ i < 26 ∧ r = some (.int (Int32.ofNat (mj_by i).length)) ∧ h' = h := by
  unfold mj_strlen at hF
  split at hF
  · split at hF
    · cases hF
      exact ⟨_, rfl, ‹_›, rfl, rfl⟩
    · cases hF
  · cases hF
theorem mj_strlen_er {av : List Value} {h h' : mj_H} {e : Option Nat} (hF : mj_strlen av h = .error e h') : e = none := by
  unfold mj_strlen at hF
  split at hF
  · split at hF
    · cases hF
    · cases hF; rfl
  · cases hF; rfl
theorem mj_strchr_ok {av : List Value} {h h' : mj_H} {r : Option Value} (hF : mj_strchr av h = .ok r h') : ∃ i k, av = [.ref i, .int k] ∧ (i < 26 ∧ 0 ≤ k.toInt ∧ k.toInt < ((mj_by i).length : Int)) ∧ r = some (.int ((mj_by i).getD k.toNatClampNeg 0 &&& 255)) ∧ h' = h := by
  unfold mj_strchr at hF
  split at hF
  · split at hF
    · cases hF
      exact ⟨_, _, rfl, ‹_›, rfl, rfl⟩
    · cases hF
  · cases hF
theorem mj_strchr_er {av : List Value} {h h' : mj_H} {e : Option Nat} (hF : mj_strchr av h = .error e h') : e = none := by
  unfold mj_strchr at hF
  split at hF
  · split at hF
    · cases hF
    · cases hF; rfl
  · cases hF; rfl
theorem mj_by_len : ∀ i, i < 26 → (mj_by i).length < 2 ^ 31 := by decide +kernel
theorem jd_length : mj_Snd yJ5_length (ws_ yJ5_length cJ5_length 1 (some .int)) 2 mj_strlen := by
  intro l hl0 Z av h
  cases hF : mj_strlen av h with
  | error e h' =>
    cases mj_strlen_er hF
    trivial
  | ok r h' =>
    obtain ⟨i, rfl, hi, rfl, rfl⟩ := mj_strlen_ok hF
    · refine vx_ofW (cc := cJ5_length) (maxL := 1) (ret := some .int) (by decide) rfl ?_
      intro p e s m args below meth c s₁ B hml _ hv
      obtain ⟨rfl, hw, hrep⟩ := hv
      have hx := B.exec
      have hb := B.bytes
      have hr := B.returns
      have hts := atoms_spec (ws := ws_ yJ5_length cJ5_length 1 (some .int)) B.pre
      have hts : ∀ w ∈ lw_all, w.before _ s = true := fun w h => hts w (List.mem_cons_of_mem _ h)
      have hown : s.vm.findClass RJ5 = some m.cls := findClass_of_methodNamed B.named
      have hlocks := B.notSynchronized
      have e0 : [Value.ref i].map (mj_tv (mj_t Z)) = [.ref (Z.2.2.2.2.2 i)] := by
        show [Value.ref (mj_t Z i)] = _
        rw [show mj_t Z i = Z.2.2.2.2.2 i from if_pos hi]
      rw [e0] at hts ⊢
      have hlc := lv_entry ([.ref (Z.2.2.2.2.2 i)]) (n := 1) (Nat.le_of_ble_eq_true rfl)
      rw [lg_entry_eq]
      generalize (lg_sl ([.ref (Z.2.2.2.2.2 i)]) ++ List.replicate (1 - (lg_sl ([.ref (Z.2.2.2.2.2 i)])).length) Slot.unset).toArray = ls at hlc ⊢
      obtain ⟨v, hv1, hv2⟩ := (hw.2.1 i hi).2.2
      have n1 : h'.2.1 - h'.2.1 = 0 := Nat.sub_self _
      have n2 : h'.2.2 - h'.2.2 = 0 := Nat.sub_self _
      rw [n1, n2]
      refine lv_aload_n hx hb dJ5_length_0 rfl (lv_at hlc 0 rfl) ?_
      refine vk_getf hx hb hv1 va_S.rf hown (hts _ q1830) (fun x h => h) dJ5_length_1 ?_
      refine va_tlen hx hb hv2 va_S.rf rfl dJ5_length_4 ?_
      refine lv_aload_n hx hb dJ5_length_5 rfl (lv_at hlc 0 rfl) ?_
      refine jd_run (v := some (.int 0)) (rest := [.int (Int32.ofNat (mj_by i).length)]) (va_runV (As := []) (rest := [.int (Int32.ofNat (mj_by i).length)]) ⟨hx, hb, hml, hown, hts⟩ (jd_coder l Z hi) (cwV 0 hts (lw_V q461 q462 q463 q127 q464) rfl rfl rfl (by decide +kernel) ⟨Nat.le_of_ble_eq_true rfl, Nat.le_of_ble_eq_true rfl⟩) ⟨(jd_pre hw rfl _).1, jd_recv hw hi va_S.rf, (jd_pre hw rfl [.ref (Z.2.2.2.2.2 i)]).2⟩ rfl rfl hlc.1 rfl (lv_room (Nat.le_of_ble_eq_true rfl)) dJ5_length_6 ⟨Nat.zero_le _, Nat.zero_le _⟩) ?_
      refine lv_ishr hx hb dJ5_length_9 ?_
      have e1 : Int32.ofNat (mj_by i).length >>> ((0 : Int32) &&& 31) = Int32.ofNat (mj_by i).length := sc_shr0 (mj_by_len i hi)
      rw [e1]
      exact vx_ret (W.zret hx hb hr rfl (fun t ht hW => ⟨rfl, by rw [ht]; exact hrep.moved hW.alike, by rw [va_F, ht]; exact ⟨Nat.le_refl _, fun _ _ _ => rfl⟩⟩) (fun q h => nomatch h) dJ5_length_10)
theorem jd_charAt : mj_Snd yJ5_charAt (ws_ yJ5_charAt cJ5_charAt 2 (some .char)) 7 mj_strchr := by
  intro l hl0 Z av h
  cases hF : mj_strchr av h with
  | error e h' =>
    cases mj_strchr_er hF
    trivial
  | ok r h' =>
    obtain ⟨i, k, rfl, ⟨hi, hk⟩, rfl, rfl⟩ := mj_strchr_ok hF
    · refine vx_ofW (cc := cJ5_charAt) (maxL := 2) (ret := some .char) (by decide) rfl ?_
      intro p e s m args below meth c s₁ B hml _ hv
      obtain ⟨rfl, hw, hrep⟩ := hv
      have hx := B.exec
      have hb := B.bytes
      have hr := B.returns
      have hts := atoms_spec (ws := ws_ yJ5_charAt cJ5_charAt 2 (some .char)) B.pre
      have hts : ∀ w ∈ lw_all, w.before _ s = true := fun w h => hts w (List.mem_cons_of_mem _ h)
      have hown : s.vm.findClass RJ5 = some m.cls := findClass_of_methodNamed B.named
      have hlocks := B.notSynchronized
      have e0 : [Value.ref i, Value.int k].map (mj_tv (mj_t Z)) = [.ref (Z.2.2.2.2.2 i), .int k] := by
        show [Value.ref (mj_t Z i), Value.int k] = _
        rw [show mj_t Z i = Z.2.2.2.2.2 i from if_pos hi]
      rw [e0] at hts ⊢
      have hlc := lv_entry ([.ref (Z.2.2.2.2.2 i), .int k]) (n := 2) (Nat.le_of_ble_eq_true rfl)
      rw [lg_entry_eq]
      generalize (lg_sl ([.ref (Z.2.2.2.2.2 i), .int k]) ++ List.replicate (2 - (lg_sl ([.ref (Z.2.2.2.2.2 i), .int k])).length) Slot.unset).toArray = ls at hlc ⊢
      obtain ⟨v, hv1, hv2⟩ := (hw.2.1 i hi).2.2
      have n1 : h'.2.1 - h'.2.1 = 0 := Nat.sub_self _
      have n2 : h'.2.2 - h'.2.2 = 0 := Nat.sub_self _
      rw [n1, n2]
      refine lv_aload_n hx hb dJ5_charAt_0 rfl (lv_at hlc 0 rfl) ?_
      refine jd_run (v := some (.int 1)) (rest := []) (va_runV (As := []) (rest := []) ⟨hx, hb, hml, hown, hts⟩ (jd_isLatin1 l Z hi) (cwV 0 hts (lw_V q471 q472 q473 q127 q474) rfl rfl rfl (by decide +kernel) ⟨Nat.le_of_ble_eq_true rfl, Nat.le_of_ble_eq_true rfl⟩) ⟨(jd_pre hw rfl _).1, jd_recv hw hi va_S.rf, (jd_pre hw rfl [.ref (Z.2.2.2.2.2 i)]).2⟩ rfl rfl hlc.1 rfl (lv_room (Nat.le_of_ble_eq_true rfl)) dJ5_charAt_1 ⟨Nat.zero_le _, Nat.zero_le _⟩) ?_
      refine lv_if_eq (tgt := 16) hx hb dJ5_charAt_4 (by decide) (fun c => absurd c (by decide)) (fun _ => ?_)
      refine lv_aload_n hx hb dJ5_charAt_7 rfl (lv_at hlc 0 rfl) ?_
      refine vk_getf hx hb hv1 va_S.rf hown (hts _ q1830) (fun x h => h) dJ5_charAt_8 ?_
      refine lv_iload_n hx hb dJ5_charAt_11 rfl (lv_at hlc 1 rfl) ?_
      refine jd_run (v := some (.int ((mj_by i).getD k.toNatClampNeg 0 &&& 255))) (rest := []) (va_runS (As := [.ref v, .int k]) (rest := []) ⟨hx, hb, hml, hown, hts⟩ (jd_lcharAt l Z (v := v) (f := fun j => (mj_by i).getD j 0) (mj_by_len i hi) (vp_in_iff.mpr hk)) (va_cwS 2 hts (lw_S q475 q476 q128 q477) rfl rfl rfl (by decide +kernel) ⟨Nat.le_of_ble_eq_true rfl, Nat.le_of_ble_eq_true rfl⟩) ⟨jd_blind2 _ _ _ _ _, fun U hU hW => ⟨rfl, by rw [hU]; exact hw.warm hW, by rw [hU]; exact va_T.moved hW.alike hv2⟩⟩ rfl rfl hlc.1 rfl (lv_room (Nat.le_of_ble_eq_true rfl)) dJ5_charAt_12 ⟨Nat.zero_le _, Nat.zero_le _⟩) ?_
      exact vx_ret (W.zret hx hb hr (sc_nar _) (fun t ht hW => ⟨rfl, by rw [ht]; exact hrep.moved hW.alike, by rw [va_F, ht]; exact ⟨Nat.le_refl _, fun _ _ _ => rfl⟩⟩) (fun q h => nomatch h) dJ5_charAt_15)
/-- a call of a String constant's method -/
def mx_sv (F : List Value → mj_H → mj_Res) (O : mj_X (Option Nat)) (Es : mj_X (List Value)) : mj_X (Option Value) := fun σ => mj_bd (O σ) fun r σ => mj_bd (Es σ) fun vs σ => match r with
  | some b => if b < 26 then mj_lift σ.1 σ.2 (F (.ref b :: vs) σ.2) else .error none σ
  | none => .error none σ
theorem mj_callStr {own : String} {cc : ByteArray} {nL fr : Nat} {ini : Bool} {hh : List (Nat × Nat × Nat × Nat)} {K : mj_M} {Z : mj_Z} {pc : Nat} {L : mj_L} {st : List Value} {h : mj_H} (C : mj_C0 own cc nL fr ini hh K Z) {y : MethodName} {ccy : ByteArray} {nLy fry idx n : Nat} {rety : Option FieldType} {F : List Value → mj_H → mj_Res} (hS : mj_Snd y (ws_ y ccy nLy rety) fry F) (hG : GoodIn lw_all (wsV own idx RJ5 y (ws_ y ccy nLy rety)))
    (hd : y.cls = RJ5 ∧ y.cls ≠ "java/lang/invoke/MethodHandle" ∧ y.cls ≠ "java/lang/invoke/VarHandle" ∧ (parseMethodDescriptor y.desc).map (fun d => d.parameters.length) = some n) (hfr : fry + 1 ≤ fr) (hnL : nLy ≤ 80) (hst : (st.map fun v => v.category).sum ≤ 8) (d : decode cc pc = .ok (.invokevirtual idx, 3))
    {b : Nat} {As : List Value} (hb : b < 26) (hn : As.length = n) (k2 : mj_K2 K Z pc L st h (F (.ref b :: As) h)) : mj_G K Z pc L (As.reverse ++ .ref b :: st) h := by
  obtain ⟨l1, l2⟩ := mj_K2_lim k2
  refine ⟨l1, l2, fun A B H ls locs r f g => ?_⟩
  have hfrm := C.rf
  have hloc := C.lo
  have hSS := hS (kl K) C.tr Z (.ref b :: As) h
  have e0 : (As.reverse ++ .ref b :: st).map (mj_tv (mj_t Z)) = (As.map (mj_tv (mj_t Z))).reverse ++ .ref (mj_t Z b) :: st.map (mj_tv (mj_t Z)) := by simp [mj_tv]
  rw [e0]
  have hrv : ∃ cellB : Cell, H[mj_t Z b]? = some cellB ∧ cellB.vm.isStatics = false ∧ (ks K).vm.findClass RJ5 = some cellB.cls := by
    rw [show mj_t Z b = Z.2.2.2.2.2 b from if_pos hb]
    exact jd_recv C.wo hb f
  have hpre : PreV (ks K) H RJ5 (mj_t Z b) (mj_Pc Z (.ref b :: As) h) (As.map (mj_tv (mj_t Z))) := ⟨(mj_preP C r f).1, hrv, (mj_preP C (av := .ref b :: As) r f).2⟩
  have hW : 2 * (F0 (km K) pc ls ((As.map (mj_tv (mj_t Z))).reverse ++ .ref (mj_t Z b) :: st.map (mj_tv (mj_t Z)))).monitorRoom + ((st.map (mj_tv (mj_t Z))).map fun v => v.category).sum ≤ 8 := lv_room (by rw [mj_catsum]; exact hst)
  have hfx : CallFix (kp K) (km K) (kc K) cc nL (ks K) (ka K) lw_all own := ⟨C.ex, C.cd, C.ml, C.ow, C.ts⟩
  unfold mj_K2 at k2
  split at k2
  · rename_i ro h' hres
    rw [hres] at hSS
    exact mj_run_ok C A B r f g rfl rfl (vx_runV (b := mj_t Z b) (As := As.map (mj_tv (mj_t Z))) hfx hSS (cwV n C.ts hG rfl rfl rfl hd ⟨by show fry + 1 ≤ _; omega, by show 8 + (nLy + 11) + 100 * fry ≤ _; omega⟩) hpre rfl (by simpa using hn) (g.1.trans C.ml) rfl hW d ⟨mj_room A k2.1, mj_room B k2.2.1⟩) k2
  · rename_i ce h' hres
    rw [hres] at hSS
    exact mj_run_x C A B r f g rfl rfl (vx_runV (b := mj_t Z b) (As := As.map (mj_tv (mj_t Z))) hfx hSS (cwV n C.ts hG rfl rfl rfl hd ⟨by show fry + 1 ≤ _; omega, by show 8 + (nLy + 11) + 100 * fry ≤ _; omega⟩) hpre rfl (by simpa using hn) (g.1.trans C.ml) rfl hW d ⟨mj_room A k2.1, mj_room B k2.2.1⟩) k2
  · exact k2.elim
theorem r_callStr {μ : mj_I} {j p0 p1 p2 : Nat} {y : MethodName} {ccy : ByteArray} {nLy fry idx n : Nat} {rety : Option FieldType} {F : List Value → mj_H → mj_Res} {O : mj_X (Option Nat)} {Es : mj_X (List Value)} (hS : mj_Snd y (ws_ y ccy nLy rety) fry F) (hG : GoodIn lw_all (wsV μ.1 idx RJ5 y (ws_ y ccy nLy rety)))
    (hd : y.cls = RJ5 ∧ y.cls ≠ "java/lang/invoke/MethodHandle" ∧ y.cls ≠ "java/lang/invoke/VarHandle" ∧ (parseMethodDescriptor y.desc).map (fun d => d.parameters.length) = some n) (hnL : nLy ≤ 80) (hlen : ∀ σ, mj_ln n (Es σ))
    (hfr : fry + 1 ≤ μ.2.2.2.1) (hj : j ≤ 8) (hrg : μ.2.2.2.2.2.2 p2 = true) (d : decode μ.2.1 p2 = .ok (.invokevirtual idx, 3)) (e1 : mj_E va_rf μ j p0 p1 O) (e2 : mj_Ar μ (j + 1) p1 p2 Es) : mj_Ec μ j p0 (p2 + 3) (mx_sv F O Es) := fun K Z C L st h hst =>
  (e1 K Z C L st h hst).bd fun r σ => by
    have h2 := e2 K Z C σ.1 (va_rf r :: st) σ.2 (mj_cs1 (mj_wr r) hst)
    have h3 := hlen (σ.1, σ.2)
    revert h2 h3
    show _ → _ → mj_T μ K Z (mj_bd (Es (σ.1, σ.2)) _) _ _
    cases Es (σ.1, σ.2) with
    | ok vs τ =>
      intro h2 h3
      cases r with
      | none => trivial
      | some b =>
        by_cases hb : b < 26
        · show mj_T μ K Z (if b < 26 then _ else _) _ _
          rw [if_pos hb]
          exact mj_lift_T hrg fun k => h2 (mj_callStr C hS hG hd hfr hnL (Nat.le_trans hst hj) d hb h3 k)
        · show mj_T μ K Z (if b < 26 then _ else _) _ _
          rw [if_neg hb]; trivial
    | error e τ => cases e with
      | none => exact fun _ _ => trivial
      | some c => exact fun h2 _ => h2
