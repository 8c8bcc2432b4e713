section MjHeap
variable {own : String} {cc : ByteArray} {nL fr : Nat} {ini : Bool} {hh : List (Nat × Nat × Nat × Nat)} {K : mj_M} {Z : mj_Z} {pc : Nat} {L : mj_L} {st : List Value} {h : mj_H}
def mj_sI (c : mj_C) (k : Nat) (x : Int32) : mj_C := (c.1, c.2.1, mj_up c.2.2.1 k x, c.2.2.2.1, c.2.2.2.2)
def mj_sJ (c : mj_C) (k : Nat) (x : Int64) : mj_C := (c.1, c.2.1, c.2.2.1, mj_up c.2.2.2.1 k x, c.2.2.2.2)
def mj_sR (c : mj_C) (k : Nat) (x : Option Nat) : mj_C := (c.1, c.2.1, c.2.2.1, c.2.2.2.1, mj_up c.2.2.2.2 k x)
theorem mj_fs_at {t : Nat → Nat} {ci k : Nat} {c : mj_C} (hk : k < mj_N ci) : (mj_fs t ci c)[k]? = some (mj_fv (mj_ty ci k) (c.2.2.1 k) (c.2.2.2.1 k) (va_rf ((c.2.2.2.2 k).map t))) := by
  unfold mj_fs
  rw [List.getElem?_map, List.getElem?_range hk]
  rfl
theorem mj_fs_set {t : Nat → Nat} {ci k : Nat} {c c' : mj_C} {v : Value} (hk : k < mj_N ci) (h1 : ∀ i, i ≠ k → c'.2.2.1 i = c.2.2.1 i ∧ c'.2.2.2.1 i = c.2.2.2.1 i ∧ c'.2.2.2.2 i = c.2.2.2.2 i)
    (h2 : mj_fv (mj_ty ci k) (c'.2.2.1 k) (c'.2.2.2.1 k) (va_rf ((c'.2.2.2.2 k).map t)) = v) : (mj_fs t ci c).set k v = mj_fs t ci c' := by
  apply List.ext_getElem?
  intro j
  by_cases hj : j < mj_N ci
  · by_cases e : j = k
    · subst e
      rw [List.getElem?_set_self (by simpa [mj_fs] using hj), mj_fs_at hj, h2]
    · rw [List.getElem?_set_ne (Ne.symm e), mj_fs_at hj, mj_fs_at hj, (h1 j e).1, (h1 j e).2.1, (h1 j e).2.2]
  · rw [List.getElem?_eq_none (by simp [mj_fs]; omega), List.getElem?_eq_none (by simp [mj_fs]; omega)]
theorem mj_get (C : mj_C0 own cc nL fr ini hh K Z) {ci N k a index : Nat} {Cn : String} {T : u_T} {v : Value} (hc : mj_cl[ci]? = some (Cn, T, N)) (hin : ∀ w ∈ u_ws Cn T N, w ∈ lw_all) (hk : k < N) (hN : mj_N ci = N) (hci : ci < 50)
    (q : Jvm.Cond.fieldLink own index Cn (T k).2.1 (T k).2.2.1 ∈ lw_all) (hT : (T k).1 = Cn) (d : decode cc pc = .ok (.getfield index, 3)) (ha : (h.1 a).1 = 5 + ci)
    (hv : ∀ t, mj_fv (mj_ty ci k) ((h.1 a).2.2.1 k) ((h.1 a).2.2.2.1 k) (va_rf (((h.1 a).2.2.2.2 k).map t)) = mj_tv t v) (k2 : mj_G K Z (pc + 3) L (v :: st) h) : mj_G K Z pc L (.ref a :: st) h := by
  refine ⟨k2.1, k2.2.1, fun A B H ls locs r f g => ?_⟩
  obtain ⟨i1, i2⟩ := r.in (a := a) (by omega)
  have k3 := k2.2.2 A B H ls locs r f g
  obtain ⟨r1, r2, r3, r4, r5, κ, r6, r7⟩ := r
  have he := mj_ws_at (t := mj_t Z) (κ := κ) (M := h.1) i1 i2
  rw [mj_e_obj ha] at he
  exact va_get C.ex C.cd C.ts hin C.ow C.kk r6 (a - 27) he hc k hk (C.ts _ q) (fun x hx => by rw [hT] at hx; exact hx) ((mj_fs_at (by omega)).trans (by rw [hv])) d k3
theorem mj_getN (C : mj_C0 own cc nL fr ini hh K Z) {ci N k a index : Nat} {Cn host : String} {T : u_T} {v : Value} (hc : mj_cl[ci]? = some (Cn, T, N)) (hin : ∀ w ∈ u_ws Cn T N, w ∈ lw_all) (hk : k < N) (hN : mj_N ci = N) (hci : ci < 50)
    (q : Jvm.Cond.fieldLinkNest own index Cn (T k).2.1 (T k).2.2.1 host ∈ mj_nest) (hT : (T k).1 = Cn) (d : decode cc pc = .ok (.getfield index, 3)) (ha : (h.1 a).1 = 5 + ci)
    (hv : ∀ t, mj_fv (mj_ty ci k) ((h.1 a).2.2.1 k) ((h.1 a).2.2.2.1 k) (va_rf (((h.1 a).2.2.2.2 k).map t)) = mj_tv t v) (k2 : mj_G K Z (pc + 3) L (v :: st) h) : mj_G K Z pc L (.ref a :: st) h := by
  refine ⟨k2.1, k2.2.1, fun A B H ls locs r f g => ?_⟩
  obtain ⟨i1, i2⟩ := r.in (a := a) (by omega)
  have k3 := k2.2.2 A B H ls locs r f g
  obtain ⟨r1, r2, r3, r4, r5, κ, r6, r7⟩ := r
  have he := mj_ws_at (t := mj_t Z) (κ := κ) (M := h.1) i1 i2
  rw [mj_e_obj ha] at he
  exact va_getN C.ex C.cd C.ts hin C.ow C.kk r6 (a - 27) he hc k hk (va_Nw.use rfl (C.wo.2.2.2.2.2.2.2.2.1 _ q)) (fun x hx => by rw [hT] at hx; exact hx) ((mj_fs_at (by omega)).trans (by rw [hv])) d k3
theorem mj_put (C : mj_C0 own cc nL fr ini hh K Z) {ci N k a index : Nat} {Cn : String} {T : u_T} {v : Value} {ty : FieldType} {ty0 : Nat → FieldType} {c' : mj_C} (hc : mj_cl[ci]? = some (Cn, T, N)) (hin : ∀ w ∈ u_ws Cn T N, w ∈ lw_all) (hk : k < N) (hN : mj_N ci = N) (hci : ci < 50)
    (hty : ∀ k, k < N → parseFieldDescriptor (T k).2.2.1 = some (ty0 k)) (hnm : ∀ a, a < N → ∀ b, b < N → a ≠ b → (T a).2.1 ≠ (T b).2.1) (hfin : (T k).2.2.2 = false) (hd : ty0 k = ty) (hn : ∀ t, narrow ty (mj_tv t v) = mj_tv t v) (hfit : ∀ t, fits ty (mj_tv t v) = true)
    (q : Jvm.Cond.fieldLink own index Cn (T k).2.1 (T k).2.2.1 ∈ lw_all) (hT : (T k).1 = Cn) (d : decode cc pc = .ok (.putfield index, 3)) (ha : (h.1 a).1 = 5 + ci) (hc1 : c'.1 = (h.1 a).1) (hset : ∀ t, (mj_fs t ci (h.1 a)).set k (mj_tv t v) = mj_fs t ci c')
    (k2 : mj_G K Z (pc + 3) L st (mj_up h.1 a c', h.2.1, h.2.2)) : mj_G K Z pc L (v :: .ref a :: st) h := by
  refine ⟨k2.1, k2.2.1, fun A B H ls locs r f g => ?_⟩
  obtain ⟨i1, i2⟩ := r.in (a := a) (by omega)
  obtain ⟨r1, r2, r3, r4, r5, κ, r6, r7⟩ := r
  have he := mj_ws_at (t := mj_t Z) (κ := κ) (M := h.1) i1 i2
  rw [mj_e_obj ha] at he
  refine va_put C.ex C.cd C.ts hin ty0 hty hnm C.ow C.kk r6 (mj_D _ _ _ _ _ _) f (a - 27) he hc k hk (C.ts _ q) (fun x hx => by rw [hT] at hx; exact hx) hfin (ty := ty) (by rw [hty k hk, hd]) (hn _) (hfit _) (by simp [mj_fs]; omega) d fun H1 locs1 p1 _ s1 => ?_
  refine mj_use C k2 A B (κ := κ) (by omega) (mj_up99 r3 i2) (mj_up97 r4 i1) (by rw [mj_up_n _ _ (by omega)]; exact r5) ?_ (mj_upar r7 hc1) s1 g
  rw [hset, ← mj_e_obj (κ := κ a) (hc1.trans ha), mj_ws_set i1] at p1
  exact p1
theorem mj_putN (C : mj_C0 own cc nL fr ini hh K Z) {ci N k a index : Nat} {Cn host : String} {T : u_T} {v : Value} {ty : FieldType} {ty0 : Nat → FieldType} {c' : mj_C} (hc : mj_cl[ci]? = some (Cn, T, N)) (hin : ∀ w ∈ u_ws Cn T N, w ∈ lw_all) (hk : k < N) (hN : mj_N ci = N) (hci : ci < 50)
    (hty : ∀ k, k < N → parseFieldDescriptor (T k).2.2.1 = some (ty0 k)) (hnm : ∀ a, a < N → ∀ b, b < N → a ≠ b → (T a).2.1 ≠ (T b).2.1) (hfin : (T k).2.2.2 = false) (hd : ty0 k = ty) (hn : ∀ t, narrow ty (mj_tv t v) = mj_tv t v) (hfit : ∀ t, fits ty (mj_tv t v) = true)
    (q : Jvm.Cond.fieldLinkNest own index Cn (T k).2.1 (T k).2.2.1 host ∈ mj_nest) (hT : (T k).1 = Cn) (d : decode cc pc = .ok (.putfield index, 3)) (ha : (h.1 a).1 = 5 + ci) (hc1 : c'.1 = (h.1 a).1) (hset : ∀ t, (mj_fs t ci (h.1 a)).set k (mj_tv t v) = mj_fs t ci c')
    (k2 : mj_G K Z (pc + 3) L st (mj_up h.1 a c', h.2.1, h.2.2)) : mj_G K Z pc L (v :: .ref a :: st) h := by
  refine ⟨k2.1, k2.2.1, fun A B H ls locs r f g => ?_⟩
  obtain ⟨i1, i2⟩ := r.in (a := a) (by omega)
  obtain ⟨r1, r2, r3, r4, r5, κ, r6, r7⟩ := r
  have he := mj_ws_at (t := mj_t Z) (κ := κ) (M := h.1) i1 i2
  rw [mj_e_obj ha] at he
  refine va_putN C.ex C.cd C.ts hin ty0 hty hnm C.ow C.kk r6 (mj_D _ _ _ _ _ _) f (a - 27) he hc k hk (va_Nw.use rfl (C.wo.2.2.2.2.2.2.2.2.1 _ q)) (fun x hx => by rw [hT] at hx; exact hx) hfin (ty := ty) (by rw [hty k hk, hd]) (hn _) (hfit _) (by simp [mj_fs]; omega) d fun H1 locs1 p1 _ s1 => ?_
  refine mj_use C k2 A B (κ := κ) (by omega) (mj_up99 r3 i2) (mj_up97 r4 i1) (by rw [mj_up_n _ _ (by omega)]; exact r5) ?_ (mj_upar r7 hc1) s1 g
  rw [hset, ← mj_e_obj (κ := κ a) (hc1.trans ha), mj_ws_set i1] at p1
  exact p1
/-- a final field, in its constructor -/
theorem mj_putF (C : mj_C0 own cc nL fr true hh K Z) {ci N k a index : Nat} {Cn : String} {T : u_T} {v : Value} {ty : FieldType} {ty0 : Nat → FieldType} {c' : mj_C} (hc : mj_cl[ci]? = some (Cn, T, N)) (hin : ∀ w ∈ u_ws Cn T N, w ∈ lw_all) (hk : k < N) (hN : mj_N ci = N) (hci : ci < 50)
    (hty : ∀ k, k < N → parseFieldDescriptor (T k).2.2.1 = some (ty0 k)) (hnm : ∀ a, a < N → ∀ b, b < N → a ≠ b → (T a).2.1 ≠ (T b).2.1) (hfin : (T k).2.2.2 = true) (hdc : (T k).1 = own) (hd : ty0 k = ty) (hn : ∀ t, narrow ty (mj_tv t v) = mj_tv t v) (hfit : ∀ t, fits ty (mj_tv t v) = true)
    (q : Jvm.Cond.fieldLink own index Cn (T k).2.1 (T k).2.2.1 ∈ lw_all) (hT : (T k).1 = Cn) (d : decode cc pc = .ok (.putfield index, 3)) (ha : (h.1 a).1 = 5 + ci) (hc1 : c'.1 = (h.1 a).1) (hset : ∀ t, (mj_fs t ci (h.1 a)).set k (mj_tv t v) = mj_fs t ci c')
    (k2 : mj_G K Z (pc + 3) L st (mj_up h.1 a c', h.2.1, h.2.2)) : mj_G K Z pc L (v :: .ref a :: st) h := by
  refine ⟨k2.1, k2.2.1, fun A B H ls locs r f g => ?_⟩
  obtain ⟨i1, i2⟩ := r.in (a := a) (by omega)
  obtain ⟨r1, r2, r3, r4, r5, κ, r6, r7⟩ := r
  have he := mj_ws_at (t := mj_t Z) (κ := κ) (M := h.1) i1 i2
  rw [mj_e_obj ha] at he
  refine va_putF C.ex C.cd C.ts hin ty0 hty hnm C.ow C.kk r6 (mj_D _ _ _ _ _ _) f (a - 27) he hc k hk (C.ts _ q) (fun x hx => by rw [hT] at hx; exact hx) hfin C.nm hdc (ty := ty) (by rw [hty k hk, hd]) (hn _) (hfit _) (by simp [mj_fs]; omega) d fun H1 locs1 p1 _ s1 => ?_
  refine mj_use C k2 A B (κ := κ) (by omega) (mj_up99 r3 i2) (mj_up97 r4 i1) (by rw [mj_up_n _ _ (by omega)]; exact r5) ?_ (mj_upar r7 hc1) s1 g
  rw [hset, ← mj_e_obj (κ := κ a) (hc1.trans ha), mj_ws_set i1] at p1
  exact p1
/-! arrays -/
theorem mj_Rep.cell {U : State} {H : Heap} (r : mj_Rep Z U h H) : ∃ κ : Nat → ClassId, va_P Z.1 mj_cl (mj_ws (mj_t Z) κ h.2.1 h.1) H ∧ ∀ i, (h.1 i).1 < 5 → ArrOfT U (κ i) (mj_et (h.1 i).1) ∧ va_RA U (κ i) (mj_et (h.1 i).1) := r.2.2.2.2.2
theorem mj_bald (C : mj_C0 own cc nL fr ini hh K Z) {a : Nat} {i : Int32} (d : decode cc pc = .ok (.baload, 1)) (ha : (h.1 a).1 = 0 ∨ (h.1 a).1 = 3) (hin : vp_in i (h.1 a).2.1) (k2 : mj_G K Z (pc + 1) L (.int ((h.1 a).2.2.1 i.toNatClampNeg) :: st) h) : mj_G K Z pc L (.int i :: .ref a :: st) h := by
  refine ⟨k2.1, k2.2.1, fun A B H ls locs r f g => ?_⟩
  obtain ⟨i1, i2⟩ := r.in (a := a) (by omega)
  have k3 := k2.2.2 A B H ls locs r f g
  obtain ⟨κ, r6, r7⟩ := r.cell
  have he := mj_ws_at (t := mj_t Z) (κ := κ) (M := h.1) i1 i2
  rw [mj_e_int (by omega) (by omega)] at he
  have q := r7 a (by omega)
  rcases ha with ha | ha
  · rw [ha] at q
    exact va_bald C.ex C.cd (mj_K1 C.kk q.1 q.2) r6 (a - 27) 0 he rfl hin d k3
  · rw [ha] at q
    exact va_zald C.ex C.cd (mj_K1 C.kk q.1 q.2) r6 (a - 27) 0 he rfl hin d k3
theorem mj_iald (C : mj_C0 own cc nL fr ini hh K Z) {a : Nat} {i : Int32} (d : decode cc pc = .ok (.iaload, 1)) (ha : (h.1 a).1 = 1) (hin : vp_in i (h.1 a).2.1) (k2 : mj_G K Z (pc + 1) L (.int ((h.1 a).2.2.1 i.toNatClampNeg) :: st) h) : mj_G K Z pc L (.int i :: .ref a :: st) h := by
  refine ⟨k2.1, k2.2.1, fun A B H ls locs r f g => ?_⟩
  obtain ⟨i1, i2⟩ := r.in (a := a) (by omega)
  have k3 := k2.2.2 A B H ls locs r f g
  obtain ⟨κ, r6, r7⟩ := r.cell
  have he := mj_ws_at (t := mj_t Z) (κ := κ) (M := h.1) i1 i2
  rw [mj_e_int (by omega) (by omega)] at he
  have q := r7 a (by omega)
  rw [ha] at q
  exact va_iald C.ex C.cd (mj_K1 C.kk q.1 q.2) r6 (a - 27) 0 he rfl hin d k3
theorem mj_lald (C : mj_C0 own cc nL fr ini hh K Z) {a : Nat} {i : Int32} (d : decode cc pc = .ok (.laload, 1)) (ha : (h.1 a).1 = 2) (hin : vp_in i (h.1 a).2.1) (k2 : mj_G K Z (pc + 1) L (.long ((h.1 a).2.2.2.1 i.toNatClampNeg) :: st) h) : mj_G K Z pc L (.int i :: .ref a :: st) h := by
  refine ⟨k2.1, k2.2.1, fun A B H ls locs r f g => ?_⟩
  obtain ⟨i1, i2⟩ := r.in (a := a) (by omega)
  have k3 := k2.2.2 A B H ls locs r f g
  obtain ⟨κ, r6, r7⟩ := r.cell
  have he := mj_ws_at (t := mj_t Z) (κ := κ) (M := h.1) i1 i2
  rw [mj_e_long ha] at he
  have q := r7 a (by omega)
  rw [ha] at q
  exact va_lald C.ex C.cd (mj_K1 C.kk q.1 q.2) r6 (a - 27) 0 he rfl hin d k3
theorem mj_aald (C : mj_C0 own cc nL fr ini hh K Z) {a : Nat} {i : Int32} (d : decode cc pc = .ok (.aaload, 1)) (ha : (h.1 a).1 = 4) (hin : vp_in i (h.1 a).2.1) (k2 : mj_G K Z (pc + 1) L (va_rf ((h.1 a).2.2.2.2 i.toNatClampNeg) :: st) h) : mj_G K Z pc L (.int i :: .ref a :: st) h := by
  refine ⟨k2.1, k2.2.1, fun A B H ls locs r f g => ?_⟩
  obtain ⟨i1, i2⟩ := r.in (a := a) (by omega)
  have k3 := k2.2.2 A B H ls locs r f g
  obtain ⟨κ, r6, r7⟩ := r.cell
  have he := mj_ws_at (t := mj_t Z) (κ := κ) (M := h.1) i1 i2
  rw [mj_e_ref ha] at he
  have q := r7 a (by omega)
  rw [ha] at q
  rw [List.map_cons, mj_tv_rf] at k3
  exact va_aldq C.ex C.cd (mj_K1 C.kk q.1 q.2) r6 (a - 27) 0 he rfl hin d k3
theorem mj_sld (C : mj_C0 own cc nL fr ini hh K Z) {i : Int32} (d : decode cc pc = .ok (.iaload, 1)) (hin : vp_in i (h.1 26).2.1) (k2 : mj_G K Z (pc + 1) L (.int ((h.1 26).2.2.1 i.toNatClampNeg) :: st) h) : mj_G K Z pc L (.int i :: .ref 26 :: st) h := by
  refine ⟨k2.1, k2.2.1, fun A B H ls locs r f g => ?_⟩
  have k3 := k2.2.2 A B H ls locs r f g
  obtain ⟨r1, r2, r3, r4, r5, -⟩ := r
  rw [r5] at hin k3
  obtain ⟨-, -, -, -, -, -, -, -, -, -, -, w1, w2, w3⟩ := C.wo
  exact va_sld C.ex C.cd w1 w2 (Nat.not_le.mpr w3) f hin d k3
theorem mj_slen (C : mj_C0 own cc nL fr ini hh K Z) (d : decode cc pc = .ok (.arraylength, 1)) (k2 : mj_G K Z (pc + 1) L (.int (Int32.ofNat (h.1 26).2.1) :: st) h) : mj_G K Z pc L (.ref 26 :: st) h := by
  refine ⟨k2.1, k2.2.1, fun A B H ls locs r f g => ?_⟩
  have k3 := k2.2.2 A B H ls locs r f g
  obtain ⟨r1, r2, r3, r4, r5, -⟩ := r
  rw [r5] at k3
  obtain ⟨-, -, -, -, -, -, -, -, -, -, -, w1, w2, w3⟩ := C.wo
  exact va_slen C.ex C.cd w1 w2 (Nat.not_le.mpr w3) f d k3
theorem mj_bast (C : mj_C0 own cc nL fr ini hh K Z) {a : Nat} {i x : Int32} (d : decode cc pc = .ok (.bastore, 1)) (ha : (h.1 a).1 = 0 ∨ (h.1 a).1 = 3) (hin : vp_in i (h.1 a).2.1) (k2 : mj_G K Z (pc + 1) L st (mj_up h.1 a (mj_sI (h.1 a) i.toNatClampNeg (vp_nar (mj_et (h.1 a).1) x)), h.2.1, h.2.2)) : mj_G K Z pc L (.int x :: .int i :: .ref a :: st) h := by
  refine ⟨k2.1, k2.2.1, fun A B H ls locs r f g => ?_⟩
  obtain ⟨i1, i2⟩ := r.in (a := a) (by omega)
  obtain ⟨r1, r2, r3, r4, r5, κ, r6, r7⟩ := r
  have he := mj_ws_at (t := mj_t Z) (κ := κ) (M := h.1) i1 i2
  rw [mj_e_int (by omega) (by omega)] at he
  have q := r7 a (by omega)
  have fin : ∀ (H1 : Heap) (locs1 : List Loc), va_P Z.1 mj_cl ((mj_ws (mj_t Z) κ h.2.1 h.1).set (a - 27) (mj_t Z a, .inl (κ a, (h.1 a).2.1, .inl (upd (h.1 a).2.2.1 i.toNatClampNeg (vp_nar (mj_et (h.1 a).1) x))))) H1 → va_S (mj_A Z.2.2.1) (ks K).heap H1 locs1 → mj_w K H1 locs1 (h.2.1 - kn K) (h.2.2 - ksl K) (F0 (km K) (pc + 1) ls (st.map (mj_tv (mj_t Z)))) := by
    intro H1 locs1 p1 s1
    refine mj_use C k2 A B (κ := κ) (by omega) (mj_up99 r3 i2) (mj_up97 r4 i1) (by rw [mj_up_n _ _ (by omega)]; exact r5) ?_ (mj_upar r7 rfl) s1 g
    rw [← mj_ws_set i1, mj_e_int (c := mj_sI _ _ _) (show (h.1 a).1 < 4 by omega) (show (h.1 a).1 ≠ 2 by omega)]
    exact p1
  rcases ha with ha | ha
  · rw [ha] at q fin
    exact va_bast C.ex C.cd (mj_K1 C.kk q.1 q.2) r6 (mj_D _ _ _ _ _ _) f (a - 27) 0 he rfl hin d fun H1 locs1 p1 _ s1 => fin H1 locs1 p1 s1
  · rw [ha] at q fin
    exact va_zast C.ex C.cd (mj_K1 C.kk q.1 q.2) r6 (mj_D _ _ _ _ _ _) f (a - 27) 0 he rfl hin d fun H1 locs1 p1 _ s1 => fin H1 locs1 p1 s1
theorem mj_iast (C : mj_C0 own cc nL fr ini hh K Z) {a : Nat} {i x : Int32} (d : decode cc pc = .ok (.iastore, 1)) (ha : (h.1 a).1 = 1) (hin : vp_in i (h.1 a).2.1) (k2 : mj_G K Z (pc + 1) L st (mj_up h.1 a (mj_sI (h.1 a) i.toNatClampNeg x), h.2.1, h.2.2)) : mj_G K Z pc L (.int x :: .int i :: .ref a :: st) h := by
  refine ⟨k2.1, k2.2.1, fun A B H ls locs r f g => ?_⟩
  obtain ⟨i1, i2⟩ := r.in (a := a) (by omega)
  obtain ⟨r1, r2, r3, r4, r5, κ, r6, r7⟩ := r
  have he := mj_ws_at (t := mj_t Z) (κ := κ) (M := h.1) i1 i2
  rw [mj_e_int (by omega) (by omega)] at he
  have q := r7 a (by omega)
  rw [ha] at q
  refine va_iast C.ex C.cd (mj_K1 C.kk q.1 q.2) r6 (mj_D _ _ _ _ _ _) f (a - 27) 0 he rfl hin d fun H1 locs1 p1 _ s1 => ?_
  refine mj_use C k2 A B (κ := κ) (by omega) (mj_up99 r3 i2) (mj_up97 r4 i1) (by rw [mj_up_n _ _ (by omega)]; exact r5) ?_ (mj_upar r7 rfl) s1 g
  rw [← mj_ws_set i1, mj_e_int (c := mj_sI _ _ _) (show (h.1 a).1 < 4 by omega) (show (h.1 a).1 ≠ 2 by omega)]
  exact p1
theorem mj_last (C : mj_C0 own cc nL fr ini hh K Z) {a : Nat} {i : Int32} {x : Int64} (d : decode cc pc = .ok (.lastore, 1)) (ha : (h.1 a).1 = 2) (hin : vp_in i (h.1 a).2.1) (k2 : mj_G K Z (pc + 1) L st (mj_up h.1 a (mj_sJ (h.1 a) i.toNatClampNeg x), h.2.1, h.2.2)) : mj_G K Z pc L (.long x :: .int i :: .ref a :: st) h := by
  refine ⟨k2.1, k2.2.1, fun A B H ls locs r f g => ?_⟩
  obtain ⟨i1, i2⟩ := r.in (a := a) (by omega)
  obtain ⟨r1, r2, r3, r4, r5, κ, r6, r7⟩ := r
  have he := mj_ws_at (t := mj_t Z) (κ := κ) (M := h.1) i1 i2
  rw [mj_e_long ha] at he
  have q := r7 a (by omega)
  rw [ha] at q
  refine va_last C.ex C.cd (mj_K1 C.kk q.1 q.2) r6 (mj_D _ _ _ _ _ _) f (a - 27) 0 he rfl hin d fun H1 locs1 p1 _ s1 => ?_
  refine mj_use C k2 A B (κ := κ) (by omega) (mj_up99 r3 i2) (mj_up97 r4 i1) (by rw [mj_up_n _ _ (by omega)]; exact r5) ?_ (mj_upar r7 rfl) s1 g
  rw [← mj_ws_set i1, mj_e_long (c := mj_sJ _ _ _) ha]
  exact p1
theorem mj_up_map {t : Nat → Nat} (f : Nat → Option Nat) (k v : Nat) : (fun j => (mj_up f k (some v) j).map t) = va_up (fun j => (f j).map t) k (some (t v)) := by
  funext j
  unfold mj_up va_up
  split <;> rfl
theorem mj_aast (C : mj_C0 own cc nL fr ini hh K Z) {a v : Nat} {i : Int32} (d : decode cc pc = .ok (.aastore, 1)) (ha : (h.1 a).1 = 4) (hv : (h.1 v).1 = 6) (hin : vp_in i (h.1 a).2.1) (k2 : mj_G K Z (pc + 1) L st (mj_up h.1 a (mj_sR (h.1 a) i.toNatClampNeg (some v)), h.2.1, h.2.2)) : mj_G K Z pc L (.ref v :: .int i :: .ref a :: st) h := by
  refine ⟨k2.1, k2.2.1, fun A B H ls locs r f g => ?_⟩
  obtain ⟨i1, i2⟩ := r.in (a := a) (by omega)
  obtain ⟨j1, j2⟩ := r.in (a := v) (by omega)
  obtain ⟨r1, r2, r3, r4, r5, κ, r6, r7⟩ := r
  have he := mj_ws_at (t := mj_t Z) (κ := κ) (M := h.1) i1 i2
  rw [mj_e_ref ha] at he
  have hev := mj_ws_at (t := mj_t Z) (κ := κ) (M := h.1) j1 j2
  rw [mj_e_obj (ci := 1) hv] at hev
  have q := r7 a (by omega)
  rw [ha] at q
  refine va_astq C.ex C.cd (r := (RX3, TX3, 18)) (mj_K1 C.kk q.1 q.2) r6 (mj_D _ _ _ _ _ _) f (a - 27) 0 (v - 27) 1 he rfl hev rfl hin d fun H1 locs1 p1 _ s1 => ?_
  refine mj_use C k2 A B (κ := κ) (by omega) (mj_up99 r3 i2) (mj_up97 r4 i1) (by rw [mj_up_n _ _ (by omega)]; exact r5) ?_ (mj_upar r7 rfl) s1 g
  rw [← mj_ws_set i1, mj_e_ref (c := mj_sR _ _ _) ha]
  show va_P Z.1 mj_cl ((mj_ws (mj_t Z) κ h.2.1 h.1).set (a - 27) (mj_t Z a, .inl (κ a, (h.1 a).2.1, .inr (.inr (.inr (.inr fun j => (mj_up (h.1 a).2.2.2.2 i.toNatClampNeg (some v) j).map (mj_t Z))))))) H1
  rw [mj_up_map]
  exact p1
end MjHeap
