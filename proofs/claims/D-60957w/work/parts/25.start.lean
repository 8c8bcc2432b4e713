/-! the claim's start: the world, out of the Statement's premises -/
def R_law : String := "ObjectForgeLaw"
def lw_P (b : Addr) (xs : List Int32) (args : Array Value) (s : State) : Prop := args = #[.ref b] ∧ s.IntsAt b xs ∧ xs.length ≤ 320 ∧ (Jvm.Cond.and given_1 narrow_1).before args s = true
def lw_Q (_ : Array Value) (s : State) (o : Outcome) (t : State) : Prop := o = .returned (some (.int 1)) ∧ Framed s o t [] 90852 8739582
def lw_Z (below : List Frame) (a : Array Value) (s : State) : State → Prop := fun t => ∃ o, t.status = .running ∧ Ended t below o ∧ lw_Q a s o t
/-- the law's own end, with 1 on the stack, nothing written that was there before, its room as the claim has it -/
theorem lw_ret {p : Program} {l : Launch} {e : Env} {s : State} {m : MethodId} {below : List Frame} {meth : Method} {c : Code} {b : Nat} (hx : p.tables.exec = Jvm.exec) (hb : c.code = code) (hr : meth.sig.returnType = ret) (hlocks : meth.locks = false) {pc : Nat} {H : Heap} {ls : Array Slot} (hdg : decode code pc = .ok (.ireturn, 1)) : W p l e room_1 s m #[Value.ref b] below meth c H [] 90852 8739582 (lw_Z below #[Value.ref b] s) (F0 m pc ls [.int 1]) := by
  intro T hT X
  obtain ⟨fs, hret, hrun, hended, hW, hframe⟩ := X.leave (v := some (.int 1)) (hlocks := hlocks) (fun h => by rw [hr] at h; cases h)
  have hmeth' : T.vm.method? m = some meth := X.method'
  refine ⟨T.setFrames fs, ?_, .returned (some (.int 1)), hrun, hended, rfl, ⟨_, rfl⟩, hW, hframe⟩
  jvm_step X.here [X.here.top, hx, hb, hdg, hmeth', hr, ret, narrow_b1]
  (try refine ⟨rfl, ?_⟩); (try refine ⟨rfl, ?_⟩)
  first | (intro acts; rw [hret _ acts rfl rfl rfl]) | rw [hret _ _ rfl rfl rfl]
  exact Steps.refl _
/-- what holds at the law's entry: the machine, the code, the tables' words (any of lw_tbl by 'hts w (by decide +kernel)'), the script of L ints xs at the cell b, what the Statement gives of the start (any of its parts by flat_of_before) -/
def lw_At (p : Program) (s : State) (m : MethodId) (meth : Method) (c : Code) (b L : Nat) (xs : Nat → Int32) : Prop :=
  p.tables.exec = Jvm.exec ∧ c.code = code ∧ meth.sig.returnType = ret ∧ c.maxLocals = 7 ∧ s.vm.findClass R_law = some m.cls ∧ (∀ w ∈ lw_tbl, w.before #[Value.ref b] s = true) ∧ va_X b L xs s s.heap ∧ b < s.heap.size ∧ meth.locks = false ∧ (Jvm.Cond.and given_1 narrow_1).before #[Value.ref b] s = true
def ws_pos : List Nat := [125, 26, 320, 420, 443, 469, 569, 604, 625, 651, 699, 736, 764, 859, 896, 929, 1040, 1075, 1100, 1157, 1176, 1215, 1236, 1289, 1318, 1400]
def ws_ix (i : Nat) : Nat := (mj_tx.getD i (0, "")).1
def ws_val (i : Nat) : Term := .field (.string "ObjectForge" (ws_ix i)) "java/lang/String" "value" "[B"
/-- what the premises say of the String constant i -/
def ws_say (i : Nat) : List Jvm.Cond := [.exactly (.string "ObjectForge" (ws_ix i)) "java/lang/String", .eq (.field (.string "ObjectForge" (ws_ix i)) "java/lang/String" "coder" "B") (.int 0), .arrayOf (ws_val i) .byte, .eq (.length (ws_val i)) (.int (Int32.ofNat (mj_by i).length))] ++ (List.range (mj_by i).length).map fun j => .eq (.elem (ws_val i) (.int (Int32.ofNat j))) (.int ((mj_by i).getD j 0))
set_option maxRecDepth 1000000 in
set_option maxHeartbeats 4000000 in
theorem ws_all : (List.range 26).all (fun i => decide (((flatC narrow_1).drop (ws_pos.getD i 0)).take (ws_say i).length = ws_say i)) = true := by decide +kernel
theorem ws_says {args : Array Value} {s : State} (h : ∀ c ∈ flatC narrow_1, c.before args s = true) {i : Nat} (hi : i < 26) : ∀ w ∈ ws_say i, w.before args s = true := by
  intro w hw
  have h1 := of_decide_eq_true (List.all_eq_true.mp ws_all i (List.mem_range.mpr hi))
  rw [← h1] at hw
  exact h w (List.mem_of_mem_drop (List.mem_of_mem_take hw))
theorem ws_ref : ∀ q ∈ mj_tx, Jvm.Cond.stringRef RX1 q.1 q.2 ∈ lw_tbl := (List.forall_mem_cons.mpr ⟨q550, (List.forall_mem_cons.mpr ⟨q448, (List.forall_mem_cons.mpr ⟨q614, (List.forall_mem_cons.mpr ⟨q615, (List.forall_mem_cons.mpr ⟨q616, (List.forall_mem_cons.mpr ⟨q617, (List.forall_mem_cons.mpr ⟨q618, (List.forall_mem_cons.mpr ⟨q619, (List.forall_mem_cons.mpr ⟨q620, (List.forall_mem_cons.mpr ⟨q621, (List.forall_mem_cons.mpr ⟨q622, (List.forall_mem_cons.mpr ⟨q623, (List.forall_mem_cons.mpr ⟨q624, (List.forall_mem_cons.mpr ⟨q625, (List.forall_mem_cons.mpr ⟨q626, (List.forall_mem_cons.mpr ⟨q627, (List.forall_mem_cons.mpr ⟨q628, (List.forall_mem_cons.mpr ⟨q629, (List.forall_mem_cons.mpr ⟨q630, (List.forall_mem_cons.mpr ⟨q631, (List.forall_mem_cons.mpr ⟨q632, (List.forall_mem_cons.mpr ⟨q633, (List.forall_mem_cons.mpr ⟨q638, (List.forall_mem_cons.mpr ⟨q643, (List.forall_mem_cons.mpr ⟨q644, (List.forall_mem_cons.mpr ⟨q645, (fun _ h => absurd h List.not_mem_nil)⟩)⟩)⟩)⟩)⟩)⟩)⟩)⟩)⟩)⟩)⟩)⟩)⟩)⟩)⟩)⟩)⟩)⟩)⟩)⟩)⟩)⟩)⟩)⟩)⟩)⟩)
theorem ws_nest : ∀ w ∈ mj_nest, w ∈ lw_tbl := (List.forall_mem_cons.mpr ⟨q329, (List.forall_mem_cons.mpr ⟨q235, (List.forall_mem_cons.mpr ⟨q308, (List.forall_mem_cons.mpr ⟨q797, (List.forall_mem_cons.mpr ⟨q236, (List.forall_mem_cons.mpr ⟨q238, (List.forall_mem_cons.mpr ⟨q240, (List.forall_mem_cons.mpr ⟨q336, (List.forall_mem_cons.mpr ⟨q338, (List.forall_mem_cons.mpr ⟨q340, (List.forall_mem_cons.mpr ⟨q342, (List.forall_mem_cons.mpr ⟨q344, (List.forall_mem_cons.mpr ⟨q346, (List.forall_mem_cons.mpr ⟨q348, (List.forall_mem_cons.mpr ⟨q350, (List.forall_mem_cons.mpr ⟨q352, (List.forall_mem_cons.mpr ⟨q354, (List.forall_mem_cons.mpr ⟨q356, (List.forall_mem_cons.mpr ⟨q358, (List.forall_mem_cons.mpr ⟨q360, (List.forall_mem_cons.mpr ⟨q362, (List.forall_mem_cons.mpr ⟨q364, (List.forall_mem_cons.mpr ⟨q366, (fun _ h => absurd h List.not_mem_nil)⟩)⟩)⟩)⟩)⟩)⟩)⟩)⟩)⟩)⟩)⟩)⟩)⟩)⟩)⟩)⟩)⟩)⟩)⟩)⟩)⟩)⟩)⟩)
def mj_h0 (L : Nat) (xs : Nat → Int32) : mj_H := (fun i => if i < 26 then (97, 0, fun _ => 0, fun _ => 0, fun _ => none) else if i = 26 then (98, L, xs, fun _ => 0, fun _ => none) else (99, 0, fun _ => 0, fun _ => 0, fun _ => none), 27, 0)
/-- what is left: the law, as a function, answers 1 within the room -/
def law_pure : Prop := ∀ (L : Nat) (xs : Nat → Int32), L ≤ 320 → ∃ σ : mj_S, b_L_law (mj_L0 7 [.ref 26], mj_h0 L xs) = .ok (some (.inl (some (.int 1)))) σ ∧ σ.2.2.1 ≤ 90879 ∧ σ.2.2.2 ≤ 8739582
theorem ws_world {b L : Nat} {xs : Nat → Int32} {args : Array Value} {s : State} (hts : ∀ w ∈ lw_tbl, w.before args s = true) (hn : ∀ c ∈ flatC narrow_1, c.before args s = true) (hX : va_X b L xs s s.heap) (hb : b < s.heap.size) : ∃ (D : va_G) (adK : Nat → Nat), mj_W (D, b, s.heap.size, L, xs, adK) s s.heap := by
  have hA : ∀ a : Nat, a < s.heap.size → ¬ mj_A s.heap.size a := fun a h => Nat.not_le.mpr h
  obtain ⟨c0, i0, k0⟩ := u_known (C := RX1) (T := TX1) (N := 25) (n := 25) hts (fun w h => lw_all_tbl (in_X1 w h)) (hts _ (lw_all_tbl q134))
  obtain ⟨c1, i1, k1⟩ := u_known (C := RX3) (T := TX3) (N := 18) (n := 18) hts (fun w h => lw_all_tbl (in_X3 w h)) (hts _ (lw_all_tbl q328))
  obtain ⟨c2, i2, k2⟩ := u_known (C := RX2) (T := TX2) (N := 52) (n := 52) hts (fun w h => lw_all_tbl (in_X2 w h)) (hts _ (lw_all_tbl q914))
  obtain ⟨c3, i3, k3⟩ := u_known (C := RJ3) (T := TJ3) (N := 0) (n := 6) hts (fun w h => by simp [u_ws] at h) (hts _ (lw_all_tbl q234))
  obtain ⟨c4, i4, k4⟩ := u_known (C := RJ4) (T := TJ4) (N := 0) (n := 6) hts (fun w h => by simp [u_ws] at h) (hts _ (lw_all_tbl q307))
  obtain ⟨c5, i5, k5⟩ := u_known (C := RJ9) (T := TJ9) (N := 0) (n := 6) hts (fun w h => by simp [u_ws] at h) (hts _ (lw_all_tbl q796))
  have hs0 : ∀ i : Nat, ∃ a : Nat, i < 26 → (Term.string "ObjectForge" (ws_ix i)).eval args s none [] s = some (.ref a) ∧ mj_str (mj_by i).length (mj_by i) a (mj_A s.heap.size) s s.heap := by
    intro i
    by_cases hi : i < 26
    · have hw := ws_says hn hi
      obtain ⟨a, c, cA, kA, g1, g2, g3, g4, g5, g6, -⟩ := Cond.exactly_spec (args := args) (first := s) (o := none) (s := s) (idx := []) (t := .string "ObjectForge" (ws_ix i)) (cls := "java/lang/String") (hw _ (by simp [ws_say]))
      obtain ⟨t, ht, hT⟩ := va_Tof (tm := ws_val i) (ty := .byte) (N := (mj_by i).length) (f := fun j => .int ((mj_by i).getD j 0)) (A := mj_A s.heap.size) (mj_by_len i hi) (hw _ (by simp [ws_say])) (va_eqt (hw _ (by simp [ws_say]))) (fun j hj => va_eqt (hw _ (List.mem_append_right _ (List.mem_map.mpr ⟨j, List.mem_range.mpr hj, rfl⟩)))) hA
      exact ⟨a, fun _ => ⟨g1, ⟨cA, g3, g5, by rw [g6]; exact g2, hA a (Array.getElem?_eq_some_iff.mp g3).1⟩, vk_OFof g1 (va_eqt (hw _ (by simp [ws_say, RJ5]))) hA, t, vk_OFof g1 ht hA, hT⟩⟩
    · exact ⟨0, fun h => absurd h hi⟩
  obtain ⟨adK, hs⟩ := Classical.axiomOfChoice hs0
  refine ⟨(fun k => match k with | 0 => c0 | 1 => c1 | 2 => c2 | 3 => c3 | 4 => c4 | _ => c5, fun k => match k with | 0 => i0 | 1 => i1 | 2 => i2 | 3 => i3 | 4 => i4 | _ => i5), adK, ⟨fun k q hq => ?_, fun k q h => by simp at h⟩, fun i hi => (hs i hi).2, fun i ix tx hi => ?_, ?_, ?_, ?_, ?_, ?_, ?_, ?_, ?_, hX, hb, hb⟩
  · match k, hq with
    | 0, hq => cases hq; exact k0
    | 1, hq => cases hq; exact k1
    | 2, hq => cases hq; exact k2
    | 3, hq => cases hq; exact k3
    | 4, hq => cases hq; exact k4
    | 5, hq => cases hq; exact k5
    | k + 6, hq => simp [mj_cl] at hq
  · have hi2 : i < 26 := (List.getElem?_eq_some_iff.mp hi).1
    have e1 := (hs i hi2).1
    rw [show ws_ix i = ix by unfold ws_ix; rw [List.getD_eq_getElem?_getD, hi]; rfl] at e1
    exact vk_R.of (hts _ (ws_ref _ (List.mem_of_getElem? hi))) e1
  · exact va_Zof (hts _ q466) (hts _ (lw_all_tbl q127)) (va_eqt (hn _ (by decide +kernel))) hA
  · exact va_Zqof (hts _ q482) (hts _ (lw_all_tbl q129)) (hn _ (by decide +kernel)) hA
  · exact vx_Zqof (hts _ q260) (hts _ (lw_all_tbl q121)) (hn _ (by decide +kernel)) hA
  · exact vx_Zqof (hts _ q262) (hts _ (lw_all_tbl q121)) (hn _ (by decide +kernel)) hA
  · exact va_AO.of (hts _ q142)
  · exact fun w hw => va_Nw.of (mj_nest_tab w hw) (hts w (ws_nest w hw))
  · exact va_Nc.of (hn _ (by decide +kernel))
  · exact va_Nc.of (hn _ (by decide +kernel))
theorem ws_rep {D : va_G} {b L : Nat} {xs : Nat → Int32} {adK : Nat → Nat} {s : State} : mj_Rep (D, b, s.heap.size, L, xs, adK) s (mj_h0 L xs) s.heap := by
  refine ⟨Nat.le_refl _, by simp [mj_h0], fun i hi => ?_, fun i hi => ?_, rfl, fun _ => 0, fun k q hq => ?_, fun i hi => ?_⟩
  · have h1 : ¬ i < 26 := by have : 27 ≤ i := hi; omega
    have h2 : ¬ i = 26 := by have : 27 ≤ i := hi; omega
    simp [mj_h0, h1, h2]
  · simp [mj_h0, hi]
  · have := (mj_ws_inv hq).1
    simp [mj_h0] at this
  · unfold mj_h0 at hi
    dsimp only at hi
    split at hi
    · simp at hi
    · split at hi <;> simp at hi
theorem ws_C0 {p : Program} {e : Env} {s : State} {m : MethodId} {below : List Frame} {meth : Method} {c : Code} (l : Launch) (hflags : l.flags = flags0) {b L : Nat} {xs : Nat → Int32} (C0 : lw_At p s m meth c b L xs) : ∃ (D : va_G) (adK : Nat → Nat), mj_C0 RX0 cL_law 7 22 false (c.exceptionTable.toList.map fun h => (h.startPc, h.endPc, h.handlerPc, h.catchType)) (p, l, e, room_1, s, m, #[Value.ref b], below, meth, c, lw_Z below #[Value.ref b] s, 27, 0) (D, b, s.heap.size, L, xs, adK) := by
  obtain ⟨hx, hb, hr, hml, hown, hts, hX, hbl, hlocks, hgv⟩ := id C0
  have hgv2 : narrow_1.before #[Value.ref b] s = true := by
    rw [Cond.before_and, Bool.and_eq_true] at hgv
    exact hgv.2
  obtain ⟨D, adK, hW⟩ := ws_world hts (flat_of_before _ hgv2) hX hbl
  have hst : l.stackTraces = false := by
    unfold Launch.stackTraces
    rw [hflags]
    decide +kernel
  exact ⟨D, adK, hx, hb, hml, hown, fun w h => hts w (lw_all_tbl h), hW, Nat.le_refl _, rfl, Nat.le_of_ble_eq_true rfl, Nat.le_of_ble_eq_true rfl, hst, hlocks, (fun h => absurd h Bool.false_ne_true), (table_eq c.exceptionTable.toList).symm⟩
theorem ws_room {a : Nat} (h : a ≤ 90879) : a ≤ 27 + 90852 := h
theorem ws_room1 {a : Nat} (h : a ≤ 90879) : a - 27 ≤ 90852 := Nat.sub_le_of_le_add h
theorem ws_room2 {a : Nat} (h : a ≤ 8739582) : a - 0 ≤ 8739582 := h
theorem ws_room3 {a : Nat} (h : a ≤ 8739582) : a ≤ 0 + 8739582 := by rw [Nat.zero_add]; exact h
theorem ws_cells : room_1.cells = 90852 := rfl
theorem ws_slots : room_1.slots = 8739582 := rfl
theorem ws_start (hp : law_pure) {p : Program} {e : Env} {s : State} {m : MethodId} {below : List Frame} {meth : Method} {c : Code} (l : Launch) (hflags : l.flags = flags0) {b L : Nat} {xs : Nat → Int32} (hL : L ≤ 320) (C0 : lw_At p s m meth c b L xs) : W p l e room_1 s m #[Value.ref b] below meth c s.heap [] 0 0 (lw_Z below #[Value.ref b] s) (entryFrame m ([Value.ref b] : List Value).toArray 7) := by
  obtain ⟨D, adK, C⟩ := ws_C0 (e := e) (below := below) l hflags C0
  obtain ⟨hx, hb, hr, hml, hown, hts, hX, hbl, hlocks, hgv⟩ := id C0
  obtain ⟨σ, e1, e2, e3⟩ := hp L xs hL
  have T := cf_L_law _ _ C (mj_L0 7 [.ref 26]) (mj_h0 L xs)
  rw [e1] at T
  have G : mj_G (p, l, e, room_1, s, m, #[Value.ref b], below, meth, c, lw_Z below #[Value.ref b] s, 27, 0) (D, b, s.heap.size, L, xs, adK) 0 (mj_L0 7 [.ref 26]) [] (mj_h0 L xs) := by
    refine T fun pc L1 d => ⟨?_, ?_, fun A B H ls locs rep f g => ?_⟩
    · show σ.2.2.1 ≤ 27 + room_1.cells
      rw [ws_cells]
      exact ws_room e2
    · show σ.2.2.2 ≤ 0 + room_1.slots
      rw [ws_slots]
      exact ws_room3 e3
    refine va_forget (fun q hq => f.2.2 q hq) (W.widen (k := 90852) (n := 8739582) (ws_room1 e2) (ws_room2 e3) ?_)
    exact lw_ret hx hb hr hlocks (by rw [show (kc _).code = cL_law from hb] at d; exact d)
  have e0 : ([Value.ref 26] : List Value).map (mj_tv (mj_t (D, b, s.heap.size, L, xs, adK))) = [.ref b] := rfl
  have hen := lv_entry ([.ref b]) (n := 7) (Nat.le_of_ble_eq_true rfl)
  rw [lg_entry_eq]
  have k2 := G.2.2 (Nat.le_refl _) (Nat.le_refl _) s.heap _ [] ws_rep va_S.rf (by show mj_Lo _ c.maxLocals _ _; rw [hml]; exact mj_entry (t := mj_t (D, b, s.heap.size, L, xs, adK)) (av := [.ref 26]) hen)
  exact k2
