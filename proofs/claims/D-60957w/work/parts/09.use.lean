section MjUse
variable {own : String} {cc : ByteArray} {nL fr : Nat} {ini : Bool} {hh : List (Nat × Nat × Nat × Nat)} {K : mj_M} {Z : mj_Z}
theorem mj_C0.ex (C : mj_C0 own cc nL fr ini hh K Z) : (kp K).tables.exec = Jvm.exec := C.1
theorem mj_C0.cd (C : mj_C0 own cc nL fr ini hh K Z) : (kc K).code = cc := C.2.1
theorem mj_C0.ml (C : mj_C0 own cc nL fr ini hh K Z) : (kc K).maxLocals = nL := C.2.2.1
theorem mj_C0.ow (C : mj_C0 own cc nL fr ini hh K Z) : (ks K).vm.findClass own = some (km K).cls := C.2.2.2.1
theorem mj_C0.ts (C : mj_C0 own cc nL fr ini hh K Z) : ∀ w ∈ lw_all, w.before (ka K) (ks K) = true := C.2.2.2.2.1
theorem mj_C0.wo (C : mj_C0 own cc nL fr ini hh K Z) : mj_W Z (ks K) (ks K).heap := C.2.2.2.2.2.1
theorem mj_C0.n0 (C : mj_C0 own cc nL fr ini hh K Z) : 27 ≤ kn K := C.2.2.2.2.2.2.1
theorem mj_C0.hz (C : mj_C0 own cc nL fr ini hh K Z) : (ks K).heap.size = Z.2.2.1 + (kn K - 27) := C.2.2.2.2.2.2.2.1
theorem mj_C0.rf (C : mj_C0 own cc nL fr ini hh K Z) : fr ≤ (kR K).frames := C.2.2.2.2.2.2.2.2.1
theorem mj_C0.lo (C : mj_C0 own cc nL fr ini hh K Z) : 100 * fr ≤ (kR K).locals := C.2.2.2.2.2.2.2.2.2.1
theorem mj_C0.tr (C : mj_C0 own cc nL fr ini hh K Z) : (kl K).stackTraces = false := C.2.2.2.2.2.2.2.2.2.2.1
theorem mj_C0.lk (C : mj_C0 own cc nL fr ini hh K Z) : (kmt K).locks = false := C.2.2.2.2.2.2.2.2.2.2.2.1
theorem mj_C0.nm (C : mj_C0 own cc nL fr true hh K Z) : (kmt K).name = "<init>" := C.2.2.2.2.2.2.2.2.2.2.2.2.1 rfl
theorem mj_C0.tb (C : mj_C0 own cc nL fr ini hh K Z) : (kc K).exceptionTable.toList = tableOf hh := C.2.2.2.2.2.2.2.2.2.2.2.2.2
theorem mj_C0.kk (C : mj_C0 own cc nL fr ini hh K Z) : va_K Z.1 mj_cl [] (ks K) := C.wo.1
theorem mj_C0.hA (C : mj_C0 own cc nL fr ini hh K Z) : ∀ q, (ks K).heap.size ≤ q → mj_A Z.2.2.1 q := fun q h => by
  have h1 := C.hz
  show Z.2.2.1 ≤ q
  omega
/-- va_K with one array class -/
theorem mj_K1 {D : va_G} {U : State} (h : va_K D mj_cl [] U) {c : ClassId} {ty : FieldType} (h1 : ArrOfT U c ty) (h2 : va_RA U c ty) : va_K D mj_cl [(c, ty)] U := ⟨h.1, fun k q hq => by
  match k, hq with
  | 0, hq => cases hq; exact ⟨h1, h2⟩
  | k + 1, hq => simp at hq⟩
/-- the locals as the kit's list -/
def mj_lv (t : Nat → Nat) (L : mj_L) : List (Nat × Value) := (List.range L.length).filterMap fun k => match L[k]? with
  | some (some v) => some (k, mj_tv t v)
  | _ => none
theorem mj_lv_mem {t : Nat → Nat} {L : mj_L} {q : Nat × Value} : q ∈ mj_lv t L ↔ ∃ v, L[q.1]? = some (some v) ∧ q.2 = mj_tv t v := by
  unfold mj_lv
  rw [List.mem_filterMap]
  constructor
  · rintro ⟨k, hk, h⟩
    split at h
    · rename_i v hv
      cases h
      exact ⟨v, hv, rfl⟩
    · cases h
  · rintro ⟨v, h1, h2⟩
    refine ⟨q.1, List.mem_range.mpr (List.getElem?_eq_some_iff.mp h1).1, ?_⟩
    rw [h1]
    show some (q.1, mj_tv t v) = some q
    rw [← h2]
theorem mj_Lo.has {t : Nat → Nat} {L : mj_L} {ls : Array Slot} (h : mj_Lo t nL L ls) : lv_has ls nL (mj_lv t L) := by
  refine ⟨h.1, h.2.1, fun q hq => ?_⟩
  obtain ⟨v, h1, h2⟩ := mj_lv_mem.mp hq
  rw [h.2.2 q.1 v h1, h2]
def mj_clr (L : mj_L) (i : Nat) : mj_L := match i with
  | 0 => L
  | j + 1 => match L[j]? with
    | some (some (.long _)) => L.set j none
    | some (some (.double _)) => L.set j none
    | _ => L
/-- storing a value of one slot, of two -/
def mj_s1 (L : mj_L) (i : Nat) (v : Value) : mj_L := (mj_clr L i).set i (some v)
def mj_s2 (L : mj_L) (i : Nat) (v : Value) : mj_L := ((mj_clr L i).set i (some v)).set (i + 1) none
theorem mj_clr_at {L : mj_L} {i k : Nat} {v : Value} (h : (mj_clr L i)[k]? = some (some v)) : L[k]? = some (some v) ∧ ¬ (k + 1 = i ∧ v.category = 2) := by
  have key : ∀ j : Nat, j < L.length → (L.set j none)[k]? = some (some v) → L[k]? = some (some v) ∧ k ≠ j := by
    intro j hj h
    by_cases e : j = k
    · subst e
      rw [List.getElem?_set_self hj] at h
      cases h
    · rw [List.getElem?_set_ne e] at h
      exact ⟨h, Ne.symm e⟩
  unfold mj_clr at h
  split at h
  · exact ⟨h, fun q => by omega⟩
  · rename_i i j
    split at h
    · rename_i x hx
      obtain ⟨h1, h2⟩ := key j (List.getElem?_eq_some_iff.mp hx).1 h
      exact ⟨h1, fun q => h2 (by omega)⟩
    · rename_i x hx
      obtain ⟨h1, h2⟩ := key j (List.getElem?_eq_some_iff.mp hx).1 h
      exact ⟨h1, fun q => h2 (by omega)⟩
    · rename_i hx hx2
      refine ⟨h, fun q => ?_⟩
      obtain ⟨e, q⟩ := q
      have e : k = j := by omega
      subst e
      cases v with
      | long y => exact hx y h
      | double y => exact hx2 y h
      | int y => simp [Value.category] at q
      | float y => simp [Value.category] at q
      | ref y => simp [Value.category] at q
      | null => simp [Value.category] at q
      | _ => simp [Value.category] at q
theorem mj_s1_of {t : Nat → Nat} {L : mj_L} {ls : Array Slot} {i : Nat} {v : Value} (h : lv_has ls nL ((i, mj_tv t v) :: (mj_lv t L).filter (fun q => !(q.1 == i) && !(q.1 + 1 == i && q.2.category == 2)))) : mj_Lo t nL (mj_s1 L i v) ls := by
  refine ⟨h.1, h.2.1, fun k w hk => ?_⟩
  unfold mj_s1 at hk
  by_cases e : i = k
  · subst e
    have hl : i < (mj_clr L i).length := by
      have := (List.getElem?_eq_some_iff.mp hk).1
      simpa using this
    rw [List.getElem?_set_self hl] at hk
    cases hk
    exact h.2.2 (i, mj_tv t v) List.mem_cons_self
  · rw [List.getElem?_set_ne e] at hk
    obtain ⟨h1, h2⟩ := mj_clr_at hk
    refine h.2.2 (k, mj_tv t w) (List.mem_cons_of_mem _ (List.mem_filter.mpr ⟨mj_lv_mem.mpr ⟨w, h1, rfl⟩, ?_⟩))
    simp only [Bool.and_eq_true, Bool.not_eq_true', beq_eq_false_iff_ne, ne_eq, Bool.and_eq_false_iff, mj_tv_cat]
    refine ⟨fun q => e q.symm, ?_⟩
    by_cases e2 : k + 1 = i
    · exact Or.inr fun q => h2 ⟨e2, q⟩
    · exact Or.inl e2
theorem mj_s2_of {t : Nat → Nat} {L : mj_L} {ls : Array Slot} {i : Nat} {v : Value} (h : lv_has ls nL ((i, mj_tv t v) :: (mj_lv t L).filter (fun q => !(q.1 == i) && (!(q.1 == i + 1) && !(q.1 + 1 == i && q.2.category == 2))))) : mj_Lo t nL (mj_s2 L i v) ls := by
  refine ⟨h.1, h.2.1, fun k w hk => ?_⟩
  unfold mj_s2 at hk
  by_cases e1 : i + 1 = k
  · subst e1
    have hl : i + 1 < ((mj_clr L i).set i (some v)).length := by
      have := (List.getElem?_eq_some_iff.mp hk).1
      simpa using this
    rw [List.getElem?_set_self hl] at hk
    cases hk
  rw [List.getElem?_set_ne e1] at hk
  by_cases e : i = k
  · subst e
    have hl : i < (mj_clr L i).length := by
      have := (List.getElem?_eq_some_iff.mp hk).1
      simpa using this
    rw [List.getElem?_set_self hl] at hk
    cases hk
    exact h.2.2 (i, mj_tv t v) List.mem_cons_self
  · rw [List.getElem?_set_ne e] at hk
    obtain ⟨h1, h2⟩ := mj_clr_at hk
    refine h.2.2 (k, mj_tv t w) (List.mem_cons_of_mem _ (List.mem_filter.mpr ⟨mj_lv_mem.mpr ⟨w, h1, rfl⟩, ?_⟩))
    simp only [Bool.and_eq_true, Bool.not_eq_true', beq_eq_false_iff_ne, ne_eq, Bool.and_eq_false_iff, mj_tv_cat]
    refine ⟨fun q => e q.symm, fun q => e1 q.symm, ?_⟩
    by_cases e2 : k + 1 = i
    · exact Or.inr fun q => h2 ⟨e2, q⟩
    · exact Or.inl e2
/-- on with new cells: the size of the heap out of the room -/
theorem mj_use (C : mj_C0 own cc nL fr ini hh K Z) {pc : Nat} {L : mj_L} {st : List Value} {M : Nat → mj_C} {n sl : Nat} (k : mj_G K Z pc L st (M, n, sl)) (hn : kn K ≤ n) (hs : ksl K ≤ sl) {H : Heap} {ls : Array Slot} {locs : List Loc} {κ : Nat → ClassId} (h27 : 27 < n)
    (h99 : ∀ i, n ≤ i → (M i).1 = 99) (h97 : ∀ i, i < 26 → (M i).1 = 97) (h98 : M 26 = (98, Z.2.2.2.1, Z.2.2.2.2.1, fun _ => 0, fun _ => none)) (hP : va_P Z.1 mj_cl (mj_ws (mj_t Z) κ n M) H) (har : ∀ i, (M i).1 < 5 → ArrOfT (ks K) (κ i) (mj_et (M i).1) ∧ va_RA (ks K) (κ i) (mj_et (M i).1))
    (hS : va_S (mj_A Z.2.2.1) (ks K).heap H locs) (hL : mj_Lo (mj_t Z) (kc K).maxLocals L ls) : mj_w K H locs (n - kn K) (sl - ksl K) (F0 (km K) pc ls (st.map (mj_tv (mj_t Z)))) := by
  refine mj_w.sz fun hz => k.2.2 hn hs H ls locs ⟨Nat.le_of_lt h27, ?_, h99, h97, h98, κ, hP, har⟩ hS hL
  have h1 := (hP (n - 1 - 27) _ (mj_ws_at (by omega) (by omega))).lt
  have e1 : mj_t Z (n - 1) = Z.2.2.1 + (n - 1 - 27) := mj_tr_made (by omega)
  dsimp only at h1
  rw [e1] at h1
  have h2 := C.hz
  have h3 := C.n0
  show H.size = Z.2.2.1 + (n - 27)
  omega
theorem mj_up99 {M : Nat → mj_C} {n a : Nat} {c : mj_C} (h : ∀ i, n ≤ i → (M i).1 = 99) (ha : a < n) : ∀ i, n ≤ i → (mj_up M a c i).1 = 99 := fun i hi => by rw [mj_up_n M c (by omega)]; exact h i hi
theorem mj_up97 {M : Nat → mj_C} {a : Nat} {c : mj_C} (h : ∀ i, i < 26 → (M i).1 = 97) (ha : 27 ≤ a) : ∀ i, i < 26 → (mj_up M a c i).1 = 97 := fun i hi => by rw [mj_up_n M c (by omega)]; exact h i hi
theorem mj_upar {U : State} {κ : Nat → ClassId} {M : Nat → mj_C} {a : Nat} {c : mj_C} (h : ∀ i, (M i).1 < 5 → ArrOfT U (κ i) (mj_et (M i).1) ∧ va_RA U (κ i) (mj_et (M i).1)) (hc : c.1 = (M a).1) : ∀ i, (mj_up M a c i).1 < 5 → ArrOfT U (κ i) (mj_et (mj_up M a c i).1) ∧ va_RA U (κ i) (mj_et (mj_up M a c i).1) := by
  intro i hi
  by_cases e : i = a
  · subst e
    rw [mj_up_s] at hi ⊢
    rw [hc] at hi ⊢
    exact h i hi
  · rw [mj_up_n M c e] at hi ⊢
    exact h i hi
end MjUse
