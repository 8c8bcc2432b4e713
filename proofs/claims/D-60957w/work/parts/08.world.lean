/-! the world that stays: moved along -/
theorem mj_str.moved {len : Nat} {byt : List Int32} {ad : Nat} {A : Nat → Prop} {u U : State} {H : Heap} (hvm : u.vm.Alike U.vm) (h : mj_str len byt ad A u H) : mj_str len byt ad A U H := by
  obtain ⟨h1, h2, v, h3, h4⟩ := h
  exact ⟨va_O.moved hvm h1, va_OF.moved hvm h2, v, va_OF.moved hvm h3, va_T.moved hvm h4⟩
theorem mj_str.kept {len : Nat} {byt : List Int32} {ad : Nat} {A : Nat → Prop} {U : State} {H H1 : Heap} (h : mj_str len byt ad A U H) (hq : ∀ a : Nat, a < H.size → ¬ A a → H1[a]? = H[a]?) : mj_str len byt ad A U H1 := by
  obtain ⟨h1, h2, v, h3, h4⟩ := h
  exact ⟨h1.kept hq, h2.kept hq, v, h3.kept hq, h4.kept hq⟩
theorem mj_nw_warm {s U : State} (hW : s.WarmedH U.vm) (h : ∀ w ∈ mj_nest, va_Nw w s) : ∀ w ∈ mj_nest, va_Nw w U := by
  intro w hw
  have h1 := h w hw
  simp only [mj_nest, List.mem_cons, List.not_mem_nil, or_false] at hw
  rcases hw with rfl | rfl | rfl | rfl | rfl | rfl | rfl | rfl | rfl | rfl | rfl | rfl | rfl | rfl | rfl | rfl | rfl | rfl | rfl | rfl | rfl | rfl | rfl
  · exact va_Nw.warmM hW h1
  · exact va_Nw.warmC hW h1
  · exact va_Nw.warmC hW h1
  · exact va_Nw.warmC hW h1
  · exact va_Nw.warmD hW h1
  · exact va_Nw.warmD hW h1
  · exact va_Nw.warmD hW h1
  all_goals exact va_Nw.warmF hW h1
theorem mj_nw_same {s U : State} (hv : s.vm = U.vm) (h : ∀ w ∈ mj_nest, va_Nw w s) : ∀ w ∈ mj_nest, va_Nw w U := fun w hw => va_Nw.same (mj_nest_tab w hw) hv (h w hw)
theorem mj_W.kept {Z : mj_Z} {U : State} {H H1 : Heap} (h : mj_W Z U H) (hz : H.size ≤ H1.size) (hq : ∀ a : Nat, a < H.size → ¬ mj_A Z.2.2.1 a → H1[a]? = H[a]?) : mj_W Z U H1 := by
  obtain ⟨h1, h2, h3, h4, h5, h6, h7, h8, h9, h10, h11, h12, h13, h14⟩ := h
  refine ⟨h1, fun i hi => (h2 i hi).kept hq, h3, h4.kept hq, h5.kept hq, h6.kept hq, h7.kept hq, h8, h9, h10, h11, h12.kept (hq _ h13 ?_), Nat.lt_of_lt_of_le h13 hz, h14⟩
  exact Nat.not_le.mpr h14
theorem mj_W.warm {Z : mj_Z} {s U : State} {H : Heap} (hW : s.WarmedH U.vm) (h : mj_W Z s H) : mj_W Z U H := by
  obtain ⟨h1, h2, h3, h4, h5, h6, h7, h8, h9, h10, h11, h12, h13, h14⟩ := h
  have hvm := hW.alike
  exact ⟨va_K.moved hvm h1, fun i hi => (h2 i hi).moved hvm, fun i ix tx hi => (h3 i ix tx hi).warm hW, va_Z.moved hvm h4, va_Zq.moved hvm h5, vx_Zq.moved hvm h6, vx_Zq.moved hvm h7, va_AO.moved hvm h8, mj_nw_warm hW h9, va_Nc.moved hvm h10, va_Nc.moved hvm h11, va_X.moved hvm h12, h13, h14⟩
theorem mj_W.same {Z : mj_Z} {s U : State} {H : Heap} (hv : s.vm = U.vm) (h : mj_W Z s H) : mj_W Z U H := by
  obtain ⟨h1, h2, h3, h4, h5, h6, h7, h8, h9, h10, h11, h12, h13, h14⟩ := h
  have hvm : s.vm.Alike U.vm := by rw [hv]; exact Vm.Alike.refl _
  exact ⟨va_K.moved hvm h1, fun i hi => (h2 i hi).moved hvm, fun i ix tx hi => (h3 i ix tx hi).same hv.symm, va_Z.moved hvm h4, va_Zq.moved hvm h5, vx_Zq.moved hvm h6, vx_Zq.moved hvm h7, va_AO.moved hvm h8, mj_nw_same hv h9, va_Nc.moved hvm h10, va_Nc.moved hvm h11, va_X.moved hvm h12, h13, h14⟩
theorem mj_Rep.moved {Z : mj_Z} {u U : State} {h : mj_H} {H : Heap} (hvm : u.vm.Alike U.vm) (r : mj_Rep Z u h H) : mj_Rep Z U h H := by
  obtain ⟨h1, h2, h3, h4, h5, κ, h6, h7⟩ := r
  exact ⟨h1, h2, h3, h4, h5, κ, h6, fun i hi => ⟨arrOfT_moved hvm (h7 i hi).1, (h7 i hi).2.moved hvm⟩⟩
/-- an address that the cells know is a made one's -/
theorem mj_Rep.in {Z : mj_Z} {U : State} {h : mj_H} {H : Heap} (r : mj_Rep Z U h H) {a : Nat} (ha : (h.1 a).1 < 97) : 27 ≤ a ∧ a < h.2.1 := by
  obtain ⟨h1, h2, h3, h4, h5, -⟩ := r
  refine ⟨?_, ?_⟩
  · rcases Nat.lt_or_ge a 27 with q | q
    · rcases Nat.lt_or_ge a 26 with q2 | q2
      · rw [h4 a q2] at ha
        omega
      · have e : a = 26 := by omega
        subst e
        rw [h5] at ha
        dsimp only at ha
        omega
    · exact q
  · rcases Nat.lt_or_ge a h.2.1 with q | q
    · exact q
    · rw [h3 a q] at ha
      omega
/-- the machine that a method runs in: p l e R s m args below meth c Q, and the numbers of cells and slots at its entry -/
abbrev mj_M : Type := Program × Launch × Env × Room × State × MethodId × Array Value × List Frame × Method × Code × (State → Prop) × Nat × Nat
abbrev kp (K : mj_M) : Program := K.1
abbrev kl (K : mj_M) : Launch := K.2.1
abbrev ke (K : mj_M) : Env := K.2.2.1
abbrev kR (K : mj_M) : Room := K.2.2.2.1
abbrev ks (K : mj_M) : State := K.2.2.2.2.1
abbrev km (K : mj_M) : MethodId := K.2.2.2.2.2.1
abbrev ka (K : mj_M) : Array Value := K.2.2.2.2.2.2.1
abbrev kb (K : mj_M) : List Frame := K.2.2.2.2.2.2.2.1
abbrev kmt (K : mj_M) : Method := K.2.2.2.2.2.2.2.2.1
abbrev kc (K : mj_M) : Code := K.2.2.2.2.2.2.2.2.2.1
abbrev kQ (K : mj_M) : State → Prop := K.2.2.2.2.2.2.2.2.2.2.1
abbrev kn (K : mj_M) : Nat := K.2.2.2.2.2.2.2.2.2.2.2.1
abbrev ksl (K : mj_M) : Nat := K.2.2.2.2.2.2.2.2.2.2.2.2
abbrev mj_w (K : mj_M) (H : Heap) (locs : List Loc) (cells slots : Nat) (g : JFrame) : Prop := W (kp K) (kl K) (ke K) (kR K) (ks K) (km K) (ka K) (kb K) (kmt K) (kc K) H locs cells slots (kQ K) g
/-- what holds all through a method of the class own, of the code cc, nL locals, fr frames -/
def mj_C0 (own : String) (cc : ByteArray) (nL fr : Nat) (ini : Bool) (hh : List (Nat × Nat × Nat × Nat)) (K : mj_M) (Z : mj_Z) : Prop :=
  (kp K).tables.exec = Jvm.exec ∧ (kc K).code = cc ∧ (kc K).maxLocals = nL ∧ (ks K).vm.findClass own = some (km K).cls ∧ (∀ w ∈ lw_all, w.before (ka K) (ks K) = true) ∧ mj_W Z (ks K) (ks K).heap ∧
  27 ≤ kn K ∧ (ks K).heap.size = Z.2.2.1 + (kn K - 27) ∧ fr ≤ (kR K).frames ∧ 100 * fr ≤ (kR K).locals ∧ (kl K).stackTraces = false ∧ (kmt K).locks = false ∧ (ini = true → (kmt K).name = "<init>") ∧ (kc K).exceptionTable.toList = tableOf hh
/-- from here the method comes to its end -/
def mj_G (K : mj_M) (Z : mj_Z) (pc : Nat) (L : mj_L) (st : List Value) (h : mj_H) : Prop :=
  h.2.1 ≤ kn K + (kR K).cells ∧ h.2.2 ≤ ksl K + (kR K).slots ∧ (kn K ≤ h.2.1 → ksl K ≤ h.2.2 → ∀ (H : Heap) (ls : Array Slot) (locs : List Loc), mj_Rep Z (ks K) h H → va_S (mj_A Z.2.2.1) (ks K).heap H locs → mj_Lo (mj_t Z) (kc K).maxLocals L ls →
    mj_w K H locs (h.2.1 - kn K) (h.2.2 - ksl K) (F0 (km K) pc ls (st.map (mj_tv (mj_t Z)))))
def mj_cn (ci : Nat) : String := match ci with
  | 3 => RJ3
  | 4 => RJ4
  | _ => RJ9
/-- from here, with an exception of the class ci thrown, the method comes to its end -/
def mj_GX (K : mj_M) (Z : mj_Z) (pc : Nat) (L : mj_L) (h : mj_H) (ci : Nat) : Prop :=
  h.2.1 ≤ kn K + (kR K).cells ∧ h.2.2 ≤ ksl K + (kR K).slots ∧ (kn K ≤ h.2.1 → ksl K ≤ h.2.2 → ∀ (H : Heap) (ls : Array Slot) (locs : List Loc) (rest : List Value) (q : Nat) (ce : Cell), mj_Rep Z (ks K) h H → va_S (mj_A Z.2.2.1) (ks K).heap H locs → mj_Lo (mj_t Z) (kc K).maxLocals L ls →
    H[q]? = some ce → ce.vm = .none → (ks K).vm.findClass (mj_cn ci) = some ce.cls →
    vx_W (kp K) (kl K) (ke K) (kR K) (ks K) (km K) (ka K) (kb K) (kmt K) (kc K) H locs (h.2.1 - kn K) (h.2.2 - ksl K) (kQ K) (F0 (km K) pc ls rest) q)
theorem mj_w.sz {K : mj_M} {H : Heap} {locs : List Loc} {cells slots : Nat} {g : JFrame} (k : H.size ≤ (ks K).heap.size + cells → mj_w K H locs cells slots g) : mj_w K H locs cells slots g := by
  intro T hT X
  refine k ?_ T hT X
  have h := X.same.2.2.1
  rw [← hT]
  exact h
theorem mj_S_size {A : Nat → Prop} {H0 H : Heap} {locs : List Loc} (h : va_S A H0 H locs) : H0.size ≤ H.size := h.1
