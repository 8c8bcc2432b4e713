/-! the rules of statements -/
section MjStm
variable {μ : mj_I} {p0 p1 p2 p3 pE bk cn : Nat}
theorem mj_Fw_some {K : mj_M} {Z : mj_Z} {x : Option Value ⊕ Bool} {σ : mj_S} {a b : Nat} (k : mj_Fw K Z a bk cn (some x) σ) : mj_Fw K Z b bk cn (some x) σ := by
  rcases x with v | b
  · exact k
  · cases b <;> exact k
theorem r_skip : mj_Sm μ p0 p0 bk cn mx_skip := fun K Z C L h k => k
theorem r_goto {S : mj_X mj_F} {off : Int} {tgt : Nat} (d : decode μ.2.1 p1 = .ok (.goto off, 3)) (ht : (p1 : Int) + off = (tgt : Int)) (s : mj_Sm μ p0 p1 bk cn S) : mj_Sm μ p0 tgt bk cn S := fun K Z C L h => by
  have h1 := s K Z C L h
  unfold mj_T at h1 ⊢
  split at h1
  · rename_i f σ hf
    cases f with
    | none => exact fun k => h1 (mj_goto C d ht k)
    | some x => exact fun k => h1 (mj_Fw_some k)
  · exact h1
  · trivial
theorem r_seq {S T : mj_X mj_F} (s : mj_Sm μ p0 p1 bk cn S) (t : mj_Sm μ p1 p2 bk cn T) : mj_Sm μ p0 p2 bk cn (mx_seq S T) := fun K Z C L h =>
  (s K Z C L h).bd fun f σ => by
    cases f with
    | none => exact t K Z C σ.1 σ.2
    | some x => exact fun k => mj_Fw_some k
theorem mj_0 : (([] : List Value).map fun v => v.category).sum ≤ 0 := Nat.le_refl _
theorem r_void {E : mj_X (Option Value)} (e : mj_Ec μ 0 p0 p1 E) : mj_Sm μ p0 p1 bk cn (mx_void E) := fun K Z C L h =>
  (e K Z C L [] h mj_0).bd fun r σ => by
    cases r with
    | none => exact fun k => k
    | some v => trivial
theorem r_pop {E : mj_X (Option Value)} (d : decode μ.2.1 p1 = .ok (.pop, 1)) (e : mj_Ec μ 0 p0 p1 E) : mj_Sm μ p0 (p1 + 1) bk cn (mx_pop E) := fun K Z C L h =>
  (e K Z C L [] h mj_0).bd fun r σ => by
    cases r with
    | none => trivial
    | some v =>
      by_cases hc : v.category = 1
      · simp only [hc, if_true]
        exact fun k => mj_pop C d hc k
      · simp only [hc, if_false]
        trivial
theorem r_istore_n {E : mj_X Int32} {k0 : Fin 4} {i : Nat} (d : decode μ.2.1 p1 = .ok (.istore_n k0, 1)) (hi : (k0 : Nat) = i) (hn : i < μ.2.2.1) (e : mj_E .int μ 0 p0 p1 E) : mj_Sm μ p0 (p1 + 1) bk cn (mx_set i E) := fun K Z C L h =>
  (e K Z C L [] h mj_0).bd fun x σ k => mj_istore_n C d hi hn k
theorem r_lstore_n {E : mj_X Int64} {k0 : Fin 4} {i : Nat} (d : decode μ.2.1 p1 = .ok (.lstore_n k0, 1)) (hi : (k0 : Nat) = i) (hn : i + 1 < μ.2.2.1) (e : mj_E .long μ 0 p0 p1 E) : mj_Sm μ p0 (p1 + 1) bk cn (mx_setl i E) := fun K Z C L h =>
  (e K Z C L [] h mj_0).bd fun x σ k => mj_lstore_n C d hi hn k
theorem r_astore_n {E : mj_X (Option Nat)} {k0 : Fin 4} {i : Nat} (d : decode μ.2.1 p1 = .ok (.astore_n k0, 1)) (hi : (k0 : Nat) = i) (hn : i < μ.2.2.1) (e : mj_E va_rf μ 0 p0 p1 E) : mj_Sm μ p0 (p1 + 1) bk cn (mx_setr i E) := fun K Z C L h =>
  (e K Z C L [] h mj_0).bd fun r σ => by
    cases r with
    | none => trivial
    | some x => exact fun k => mj_astore_n C d hi hn k
theorem r_istore {E : mj_X Int32} {i : Nat} (d : decode μ.2.1 p1 = .ok (.istore i, 2)) (hn : i < μ.2.2.1) (e : mj_E .int μ 0 p0 p1 E) : mj_Sm μ p0 (p1 + 2) bk cn (mx_set i E) := fun K Z C L h =>
  (e K Z C L [] h mj_0).bd fun x σ k => mj_istore C d hn k
theorem r_lstore {E : mj_X Int64} {i : Nat} (d : decode μ.2.1 p1 = .ok (.lstore i, 2)) (hn : i + 1 < μ.2.2.1) (e : mj_E .long μ 0 p0 p1 E) : mj_Sm μ p0 (p1 + 2) bk cn (mx_setl i E) := fun K Z C L h =>
  (e K Z C L [] h mj_0).bd fun x σ k => mj_lstore C d hn k
theorem r_astore {E : mj_X (Option Nat)} {i : Nat} (d : decode μ.2.1 p1 = .ok (.astore i, 2)) (hn : i < μ.2.2.1) (e : mj_E va_rf μ 0 p0 p1 E) : mj_Sm μ p0 (p1 + 2) bk cn (mx_setr i E) := fun K Z C L h =>
  (e K Z C L [] h mj_0).bd fun r σ => by
    cases r with
    | none => trivial
    | some x => exact fun k => mj_astore C d hn k
theorem r_iinc {i : Nat} {n : Int} {v : Int32} (d : decode μ.2.1 p0 = .ok (.iinc i n, 3)) (hv : Int32.ofInt n = v) (hn : i < μ.2.2.1) : mj_Sm μ p0 (p0 + 3) bk cn (mx_inc i v) := fun K Z C L h => by
  unfold mx_inc
  dsimp only
  split
  · rename_i x hx
    exact fun k => mj_iinc C d hx (by rw [hv]) hn k
  · trivial
/-! fields -/
theorem mj_setI_ok {ci k : Nat} {c : mj_C} {x : Int32} {t : Nat → Nat} (hk : k < mj_N ci) (hf : ∀ i jj r, mj_fv (mj_ty ci k) i jj r = .int i) : (mj_fs t ci c).set k (mj_tv t (.int x)) = mj_fs t ci (mj_sI c k x) :=
  mj_fs_set hk (fun i hi => ⟨mj_up_n _ _ hi, rfl, rfl⟩) ((hf _ _ _).trans (by rw [show (mj_sI c k x).2.2.1 k = x from mj_up_s _ _ _]; rfl))
theorem mj_setJ_ok {ci k : Nat} {c : mj_C} {x : Int64} {t : Nat → Nat} (hk : k < mj_N ci) (hf : ∀ i jj r, mj_fv (mj_ty ci k) i jj r = .long jj) : (mj_fs t ci c).set k (mj_tv t (.long x)) = mj_fs t ci (mj_sJ c k x) :=
  mj_fs_set hk (fun i hi => ⟨rfl, mj_up_n _ _ hi, rfl⟩) ((hf _ _ _).trans (by rw [show (mj_sJ c k x).2.2.2.1 k = x from mj_up_s _ _ _]; rfl))
theorem mj_setR_ok {ci k : Nat} {c : mj_C} {x : Nat} {t : Nat → Nat} (hk : k < mj_N ci) (hf : ∀ i jj r, mj_fv (mj_ty ci k) i jj r = r) : (mj_fs t ci c).set k (mj_tv t (.ref x)) = mj_fs t ci (mj_sR c k (some x)) :=
  mj_fs_set hk (fun i hi => ⟨rfl, rfl, mj_up_n _ _ hi⟩) ((hf _ _ _).trans (by rw [show (mj_sR c k (some x)).2.2.2.2 k = some x from mj_up_s _ _ _]; rfl))
theorem r_put {ci N k index : Nat} {Cn : String} {T : u_T} {ty0 : Nat → FieldType} {O : mj_X (Option Nat)} {E : mj_X Int32} (hc : mj_cl[ci]? = some (Cn, T, N)) (hin : ∀ w ∈ u_ws Cn T N, w ∈ lw_all) (hk : k < N) (hN : mj_N ci = N) (hci : ci < 50) (hT : (T k).1 = Cn) (hty : ∀ k, k < N → parseFieldDescriptor (T k).2.2.1 = some (ty0 k)) (hnm : ∀ a, a < N → ∀ b, b < N → a ≠ b → (T a).2.1 ≠ (T b).2.1) (hfin : (T k).2.2.2 = false) (hd : ty0 k = .int) (hf : ∀ i jj r, mj_fv (mj_ty ci k) i jj r = .int i) (q : Jvm.Cond.fieldLink μ.1 index Cn (T k).2.1 (T k).2.2.1 ∈ lw_all) (d : decode μ.2.1 p2 = .ok (.putfield index, 3)) (e1 : mj_E va_rf μ 0 p0 p1 O) (e2 : mj_E .int μ 1 p1 p2 E) : mj_Sm μ p0 (p2 + 3) bk cn (mx_put ci k O E) := fun K Z C L h =>
  (e1 K Z C L [] h mj_0).bd fun r σ => (e2 K Z C σ.1 [va_rf r] σ.2 (mj_cs1 (mj_wr r) mj_0)).bd fun x τ => mj_ob_T fun a hr ha => by
    subst hr
    exact fun kk => mj_put C (c' := mj_sI (τ.2.1 a) k x) hc hin hk hN hci hty hnm hfin hd (fun _ => rfl) (fun _ => rfl) q hT d ha rfl (fun t => mj_setI_ok (by omega) hf) kk
theorem r_putN {ci N k index : Nat} {Cn : String} {T : u_T} {ty0 : Nat → FieldType} {O : mj_X (Option Nat)} {E : mj_X Int32} (hc : mj_cl[ci]? = some (Cn, T, N)) (hin : ∀ w ∈ u_ws Cn T N, w ∈ lw_all) (hk : k < N) (hN : mj_N ci = N) (hci : ci < 50) (hT : (T k).1 = Cn) (hty : ∀ k, k < N → parseFieldDescriptor (T k).2.2.1 = some (ty0 k)) (hnm : ∀ a, a < N → ∀ b, b < N → a ≠ b → (T a).2.1 ≠ (T b).2.1) (hfin : (T k).2.2.2 = false) (hd : ty0 k = .int) (hf : ∀ i jj r, mj_fv (mj_ty ci k) i jj r = .int i) {host : String} (q : Jvm.Cond.fieldLinkNest μ.1 index Cn (T k).2.1 (T k).2.2.1 host ∈ mj_nest) (d : decode μ.2.1 p2 = .ok (.putfield index, 3)) (e1 : mj_E va_rf μ 0 p0 p1 O) (e2 : mj_E .int μ 1 p1 p2 E) : mj_Sm μ p0 (p2 + 3) bk cn (mx_put ci k O E) := fun K Z C L h =>
  (e1 K Z C L [] h mj_0).bd fun r σ => (e2 K Z C σ.1 [va_rf r] σ.2 (mj_cs1 (mj_wr r) mj_0)).bd fun x τ => mj_ob_T fun a hr ha => by
    subst hr
    exact fun kk => mj_putN C (c' := mj_sI (τ.2.1 a) k x) hc hin hk hN hci hty hnm hfin hd (fun _ => rfl) (fun _ => rfl) q hT d ha rfl (fun t => mj_setI_ok (by omega) hf) kk
theorem r_putz {ci N k index : Nat} {Cn : String} {T : u_T} {ty0 : Nat → FieldType} {O : mj_X (Option Nat)} {E : mj_X Int32} (hc : mj_cl[ci]? = some (Cn, T, N)) (hin : ∀ w ∈ u_ws Cn T N, w ∈ lw_all) (hk : k < N) (hN : mj_N ci = N) (hci : ci < 50) (hT : (T k).1 = Cn) (hty : ∀ k, k < N → parseFieldDescriptor (T k).2.2.1 = some (ty0 k)) (hnm : ∀ a, a < N → ∀ b, b < N → a ≠ b → (T a).2.1 ≠ (T b).2.1) (hfin : (T k).2.2.2 = false) (hd : ty0 k = .boolean) (hf : ∀ i jj r, mj_fv (mj_ty ci k) i jj r = .int i) (q : Jvm.Cond.fieldLink μ.1 index Cn (T k).2.1 (T k).2.2.1 ∈ lw_all) (d : decode μ.2.1 p2 = .ok (.putfield index, 3)) (e1 : mj_E va_rf μ 0 p0 p1 O) (e2 : mj_E .int μ 1 p1 p2 E) : mj_Sm μ p0 (p2 + 3) bk cn (mx_putz ci k O E) := fun K Z C L h =>
  (e1 K Z C L [] h mj_0).bd fun r σ => (e2 K Z C σ.1 [va_rf r] σ.2 (mj_cs1 (mj_wr r) mj_0)).bd fun x τ => mj_ob_T fun a hr ha => by
    subst hr
    by_cases hx : x = 0 ∨ x = 1
    · rw [if_pos hx]
      exact fun kk => mj_put C (c' := mj_sI (τ.2.1 a) k x) hc hin hk hN hci hty hnm hfin hd (fun _ => by rcases hx with rfl | rfl <;> rfl) (fun _ => by rcases hx with rfl | rfl <;> rfl) q hT d ha rfl (fun t => mj_setI_ok (by omega) hf) kk
    · rw [if_neg hx]; trivial
theorem r_putl {ci N k index : Nat} {Cn : String} {T : u_T} {ty0 : Nat → FieldType} {O : mj_X (Option Nat)} {E : mj_X Int64} (hc : mj_cl[ci]? = some (Cn, T, N)) (hin : ∀ w ∈ u_ws Cn T N, w ∈ lw_all) (hk : k < N) (hN : mj_N ci = N) (hci : ci < 50) (hT : (T k).1 = Cn) (hty : ∀ k, k < N → parseFieldDescriptor (T k).2.2.1 = some (ty0 k)) (hnm : ∀ a, a < N → ∀ b, b < N → a ≠ b → (T a).2.1 ≠ (T b).2.1) (hfin : (T k).2.2.2 = false) (hd : ty0 k = .long) (hf : ∀ i jj r, mj_fv (mj_ty ci k) i jj r = .long jj) (q : Jvm.Cond.fieldLink μ.1 index Cn (T k).2.1 (T k).2.2.1 ∈ lw_all) (d : decode μ.2.1 p2 = .ok (.putfield index, 3)) (e1 : mj_E va_rf μ 0 p0 p1 O) (e2 : mj_E .long μ 1 p1 p2 E) : mj_Sm μ p0 (p2 + 3) bk cn (mx_putl ci k O E) := fun K Z C L h =>
  (e1 K Z C L [] h mj_0).bd fun r σ => (e2 K Z C σ.1 [va_rf r] σ.2 (mj_cs1 (mj_wr r) mj_0)).bd fun x τ => mj_ob_T fun a hr ha => by
    subst hr
    exact fun kk => mj_put C (c' := mj_sJ (τ.2.1 a) k x) hc hin hk hN hci hty hnm hfin hd (fun _ => rfl) (fun _ => rfl) q hT d ha rfl (fun t => mj_setJ_ok (by omega) hf) kk
theorem r_putr {ci N k index : Nat} {Cn : String} {T : u_T} {ty0 : Nat → FieldType} {O : mj_X (Option Nat)} {E : mj_X (Option Nat)} {ob : String} (hc : mj_cl[ci]? = some (Cn, T, N)) (hin : ∀ w ∈ u_ws Cn T N, w ∈ lw_all) (hk : k < N) (hN : mj_N ci = N) (hci : ci < 50) (hT : (T k).1 = Cn) (hty : ∀ k, k < N → parseFieldDescriptor (T k).2.2.1 = some (ty0 k)) (hnm : ∀ a, a < N → ∀ b, b < N → a ≠ b → (T a).2.1 ≠ (T b).2.1) (hfin : (T k).2.2.2 = false) (hd : ty0 k = .object ob) (hf : ∀ i jj r, mj_fv (mj_ty ci k) i jj r = r) (q : Jvm.Cond.fieldLink μ.1 index Cn (T k).2.1 (T k).2.2.1 ∈ lw_all) (d : decode μ.2.1 p2 = .ok (.putfield index, 3)) (e1 : mj_E va_rf μ 0 p0 p1 O) (e2 : mj_E va_rf μ 1 p1 p2 E) : mj_Sm μ p0 (p2 + 3) bk cn (mx_putr ci k O E) := fun K Z C L h =>
  (e1 K Z C L [] h mj_0).bd fun r σ => (e2 K Z C σ.1 [va_rf r] σ.2 (mj_cs1 (mj_wr r) mj_0)).bd fun x τ => mj_ob_T fun a hr ha => by
    subst hr
    cases x with
    | none => trivial
    | some y => exact fun kk => mj_put C (c' := mj_sR (τ.2.1 a) k (some y)) hc hin hk hN hci hty hnm hfin hd (fun _ => rfl) (fun _ => rfl) q hT d ha rfl (fun t => mj_setR_ok (by omega) hf) kk
/-- a final array field, in the constructor -/
theorem r_putF {ci N k index : Nat} {Cn : String} {T : u_T} {ty0 : Nat → FieldType} {O : mj_X (Option Nat)} {E : mj_X (Option Nat)} {ety : FieldType} (hc : mj_cl[ci]? = some (Cn, T, N)) (hin : ∀ w ∈ u_ws Cn T N, w ∈ lw_all) (hk : k < N) (hN : mj_N ci = N) (hci : ci < 50) (hT : (T k).1 = Cn) (hty : ∀ k, k < N → parseFieldDescriptor (T k).2.2.1 = some (ty0 k)) (hnm : ∀ a, a < N → ∀ b, b < N → a ≠ b → (T a).2.1 ≠ (T b).2.1) (hini : μ.2.2.2.2.1 = true) (hfin : (T k).2.2.2 = true) (hdc : (T k).1 = μ.1) (hd : ty0 k = .array ety) (hf : ∀ i jj r, mj_fv (mj_ty ci k) i jj r = r) (q : Jvm.Cond.fieldLink μ.1 index Cn (T k).2.1 (T k).2.2.1 ∈ lw_all) (d : decode μ.2.1 p2 = .ok (.putfield index, 3)) (e1 : mj_E va_rf μ 0 p0 p1 O) (e2 : mj_E va_rf μ 1 p1 p2 E) : mj_Sm μ p0 (p2 + 3) bk cn (mx_putr ci k O E) := fun K Z C L h =>
  (e1 K Z C L [] h mj_0).bd fun r σ => (e2 K Z C σ.1 [va_rf r] σ.2 (mj_cs1 (mj_wr r) mj_0)).bd fun x τ => mj_ob_T fun a hr ha => by
    subst hr
    cases x with
    | none => trivial
    | some y =>
      have C' : mj_C0 μ.1 μ.2.1 μ.2.2.1 μ.2.2.2.1 true μ.2.2.2.2.2.1 K Z := by
        have C2 := C
        unfold mj_CC at C2
        rw [hini] at C2
        exact C2
      exact fun kk => mj_putF C' (c' := mj_sR (τ.2.1 a) k (some y)) hc hin hk hN hci hty hnm hfin hdc hd (fun _ => rfl) (fun _ => rfl) q hT d ha rfl (fun t => mj_setR_ok (by omega) hf) kk
theorem r_upd {ci N k index : Nat} {Cn : String} {T : u_T} {ty0 : Nat → FieldType} {O : mj_X (Option Nat)} {E : mj_X Int32} {f : Int32 → Int32 → Int32} (hc : mj_cl[ci]? = some (Cn, T, N)) (hin : ∀ w ∈ u_ws Cn T N, w ∈ lw_all) (hk : k < N) (hN : mj_N ci = N) (hci : ci < 50) (hT : (T k).1 = Cn) (hty : ∀ k, k < N → parseFieldDescriptor (T k).2.2.1 = some (ty0 k)) (hnm : ∀ a, a < N → ∀ b, b < N → a ≠ b → (T a).2.1 ≠ (T b).2.1) (hfin : (T k).2.2.2 = false) (hd : ty0 k = .int) (hf : ∀ i jj r, mj_fv (mj_ty ci k) i jj r = .int i) (q : Jvm.Cond.fieldLink μ.1 index Cn (T k).2.1 (T k).2.2.1 ∈ lw_all) (d0 : decode μ.2.1 p1 = .ok (.dup, 1)) (d1 : decode μ.2.1 (p1 + 1) = .ok (.getfield index, 3)) (d2 : decode μ.2.1 (p2 + 1) = .ok (.putfield index, 3))
    (op : ∀ K Z, mj_CC μ K Z → ∀ (L : mj_L) (st : List Value) (h : mj_H) (a b : Int32), mj_G K Z (p2 + 1) L (.int (f a b) :: st) h → mj_G K Z p2 L (.int b :: .int a :: st) h) (e1 : mj_E va_rf μ 0 p0 p1 O) (e2 : mj_E .int μ 2 (p1 + 1 + 3) p2 E) : mj_Sm μ p0 (p2 + 1 + 3) bk cn (mx_upd ci k f O E) := fun K Z C L h =>
  (e1 K Z C L [] h mj_0).bd fun r σ => mj_ob_T fun a hr ha => by
    subst hr
    refine mj_T.bd (P := fun x τ => mj_G K Z p2 τ.1 [.int x, .int ((σ.2.1 a).2.2.1 k), .ref a] τ.2) ?_ fun x τ => mj_ob_T fun a2 hr2 ha2 => ?_
    · exact (e2 K Z C σ.1 [.int ((σ.2.1 a).2.2.1 k), .ref a] σ.2 (Nat.le_refl 2)).mono fun kk => mj_dup C d0 rfl (mj_get C hc hin hk hN hci q hT d1 ha (fun t => hf _ _ _) kk)
    · cases hr2
      exact fun kk => op K Z C τ.1 [.ref a] τ.2 _ x (mj_put C (c' := mj_sI (τ.2.1 a) k (f ((σ.2.1 a).2.2.1 k) x)) hc hin hk hN hci hty hnm hfin hd (fun _ => rfl) (fun _ => rfl) q hT d2 ha2 rfl (fun t => mj_setI_ok (by omega) hf) kk)
theorem r_updN {ci N k index : Nat} {Cn : String} {T : u_T} {ty0 : Nat → FieldType} {O : mj_X (Option Nat)} {E : mj_X Int32} {f : Int32 → Int32 → Int32} (hc : mj_cl[ci]? = some (Cn, T, N)) (hin : ∀ w ∈ u_ws Cn T N, w ∈ lw_all) (hk : k < N) (hN : mj_N ci = N) (hci : ci < 50) (hT : (T k).1 = Cn) (hty : ∀ k, k < N → parseFieldDescriptor (T k).2.2.1 = some (ty0 k)) (hnm : ∀ a, a < N → ∀ b, b < N → a ≠ b → (T a).2.1 ≠ (T b).2.1) (hfin : (T k).2.2.2 = false) (hd : ty0 k = .int) (hf : ∀ i jj r, mj_fv (mj_ty ci k) i jj r = .int i) {host : String} (q : Jvm.Cond.fieldLinkNest μ.1 index Cn (T k).2.1 (T k).2.2.1 host ∈ mj_nest) (d0 : decode μ.2.1 p1 = .ok (.dup, 1)) (d1 : decode μ.2.1 (p1 + 1) = .ok (.getfield index, 3)) (d2 : decode μ.2.1 (p2 + 1) = .ok (.putfield index, 3))
    (op : ∀ K Z, mj_CC μ K Z → ∀ (L : mj_L) (st : List Value) (h : mj_H) (a b : Int32), mj_G K Z (p2 + 1) L (.int (f a b) :: st) h → mj_G K Z p2 L (.int b :: .int a :: st) h) (e1 : mj_E va_rf μ 0 p0 p1 O) (e2 : mj_E .int μ 2 (p1 + 1 + 3) p2 E) : mj_Sm μ p0 (p2 + 1 + 3) bk cn (mx_upd ci k f O E) := fun K Z C L h =>
  (e1 K Z C L [] h mj_0).bd fun r σ => mj_ob_T fun a hr ha => by
    subst hr
    refine mj_T.bd (P := fun x τ => mj_G K Z p2 τ.1 [.int x, .int ((σ.2.1 a).2.2.1 k), .ref a] τ.2) ?_ fun x τ => mj_ob_T fun a2 hr2 ha2 => ?_
    · exact (e2 K Z C σ.1 [.int ((σ.2.1 a).2.2.1 k), .ref a] σ.2 (Nat.le_refl 2)).mono fun kk => mj_dup C d0 rfl (mj_getN C hc hin hk hN hci q hT d1 ha (fun t => hf _ _ _) kk)
    · cases hr2
      exact fun kk => op K Z C τ.1 [.ref a] τ.2 _ x (mj_putN C (c' := mj_sI (τ.2.1 a) k (f ((σ.2.1 a).2.2.1 k) x)) hc hin hk hN hci hty hnm hfin hd (fun _ => rfl) (fun _ => rfl) q hT d2 ha2 rfl (fun t => mj_setI_ok (by omega) hf) kk)
/-! arrays -/
theorem r_iastore {A : mj_X (Option Nat)} {I : mj_X Int32} {E : mj_X Int32} (d : decode μ.2.1 p3 = .ok (.iastore, 1)) (e1 : mj_E va_rf μ 0 p0 p1 A) (e2 : mj_E .int μ 1 p1 p2 I) (e3 : mj_E .int μ 2 p2 p3 E) : mj_Sm μ p0 (p3 + 1) bk cn (mx_ast A I E) := fun K Z C L h =>
  (e1 K Z C L [] h mj_0).bd fun r σ => (e2 K Z C σ.1 [va_rf r] σ.2 (mj_cs1 (mj_wr r) mj_0)).bd fun i τ => (e3 K Z C τ.1 [.int i, va_rf r] τ.2 (mj_cs1 (mj_wi i) (mj_cs1 (mj_wr r) mj_0))).bd fun x υ => mj_ix_T fun a hr ha hi => by
    subst hr
    exact fun kk => mj_iast C d (by simpa [mj_k1] using ha) hi kk
theorem r_bastore {A : mj_X (Option Nat)} {I : mj_X Int32} {E : mj_X Int32} (d : decode μ.2.1 p3 = .ok (.bastore, 1)) (e1 : mj_E va_rf μ 0 p0 p1 A) (e2 : mj_E .int μ 1 p1 p2 I) (e3 : mj_E .int μ 2 p2 p3 E) : mj_Sm μ p0 (p3 + 1) bk cn (mx_bst A I E) := fun K Z C L h =>
  (e1 K Z C L [] h mj_0).bd fun r σ => (e2 K Z C σ.1 [va_rf r] σ.2 (mj_cs1 (mj_wr r) mj_0)).bd fun i τ => (e3 K Z C τ.1 [.int i, va_rf r] τ.2 (mj_cs1 (mj_wi i) (mj_cs1 (mj_wr r) mj_0))).bd fun x υ => mj_ix_T fun a hr ha hi => by
    subst hr
    exact fun kk => mj_bast C d (by simpa [mj_kb] using ha) hi kk
theorem r_lastore {A : mj_X (Option Nat)} {I : mj_X Int32} {E : mj_X Int64} (d : decode μ.2.1 p3 = .ok (.lastore, 1)) (e1 : mj_E va_rf μ 0 p0 p1 A) (e2 : mj_E .int μ 1 p1 p2 I) (e3 : mj_E .long μ 2 p2 p3 E) : mj_Sm μ p0 (p3 + 1) bk cn (mx_lst A I E) := fun K Z C L h =>
  (e1 K Z C L [] h mj_0).bd fun r σ => (e2 K Z C σ.1 [va_rf r] σ.2 (mj_cs1 (mj_wr r) mj_0)).bd fun i τ => (e3 K Z C τ.1 [.int i, va_rf r] τ.2 (mj_cs1 (mj_wi i) (mj_cs1 (mj_wr r) mj_0))).bd fun x υ => mj_ix_T fun a hr ha hi => by
    subst hr
    exact fun kk => mj_last C d (by simpa [mj_k2] using ha) hi kk
theorem r_aastore {A : mj_X (Option Nat)} {I : mj_X Int32} {E : mj_X (Option Nat)} (d : decode μ.2.1 p3 = .ok (.aastore, 1)) (e1 : mj_E va_rf μ 0 p0 p1 A) (e2 : mj_E .int μ 1 p1 p2 I) (e3 : mj_E va_rf μ 2 p2 p3 E) : mj_Sm μ p0 (p3 + 1) bk cn (mx_rst A I E) := fun K Z C L h =>
  (e1 K Z C L [] h mj_0).bd fun r σ => (e2 K Z C σ.1 [va_rf r] σ.2 (mj_cs1 (mj_wr r) mj_0)).bd fun i τ => (e3 K Z C τ.1 [.int i, va_rf r] τ.2 (mj_cs1 (mj_wi i) (mj_cs1 (mj_wr r) mj_0))).bd fun x υ => mj_ix_T fun a hr ha hi => mj_ob_T fun y hy hy2 => by
    subst hr
    subst hy
    exact fun kk => mj_aast C d (by simpa [mj_k4] using ha) hy2 hi kk
theorem r_aup {A : mj_X (Option Nat)} {I E : mj_X Int32} {f : Int32 → Int32 → Int32} (d0 : decode μ.2.1 p2 = .ok (.dup2, 1)) (d1 : decode μ.2.1 (p2 + 1) = .ok (.iaload, 1)) (d2 : decode μ.2.1 (p3 + 1) = .ok (.iastore, 1))
    (op : ∀ K Z, mj_CC μ K Z → ∀ (L : mj_L) (st : List Value) (h : mj_H) (a b : Int32), mj_G K Z (p3 + 1) L (.int (f a b) :: st) h → mj_G K Z p3 L (.int b :: .int a :: st) h) (e1 : mj_E va_rf μ 0 p0 p1 A) (e2 : mj_E .int μ 1 p1 p2 I) (e3 : mj_E .int μ 3 (p2 + 1 + 1) p3 E) : mj_Sm μ p0 (p3 + 1 + 1) bk cn (mx_aup f A I E) := fun K Z C L h =>
  (e1 K Z C L [] h mj_0).bd fun r σ => (e2 K Z C σ.1 [va_rf r] σ.2 (mj_cs1 (mj_wr r) mj_0)).bd fun i τ => mj_ix_T fun a hr ha hi => by
    subst hr
    refine mj_T.bd (P := fun x υ => mj_G K Z p3 υ.1 [.int x, .int ((τ.2.1 a).2.2.1 i.toNatClampNeg), .int i, .ref a] υ.2) ?_ fun x υ => mj_ix_T fun a2 hr2 ha2 hi2 => ?_
    · exact (e3 K Z C τ.1 [.int ((τ.2.1 a).2.2.1 i.toNatClampNeg), .int i, .ref a] τ.2 (Nat.le_refl 3)).mono fun kk => mj_dup2 C d0 rfl rfl (mj_iald C d1 (by simpa [mj_k1] using ha) hi kk)
    · cases hr2
      exact fun kk => op K Z C υ.1 [.int i, .ref a] υ.2 _ x (mj_iast C d2 (by simpa [mj_k1] using ha2) hi2 kk)
/-! control -/
theorem r_if {B : mj_X Bool} {S T : mj_X mj_F} (c : mj_Cd μ 0 p0 p1 p2 B) (s : mj_Sm μ p1 p3 bk cn S) (t : mj_Sm μ p2 p3 bk cn T) : mj_Sm μ p0 p3 bk cn (mx_if B S T) := fun K Z C L h =>
  (c K Z C L [] h mj_0).bd fun b σ => by
    cases b with
    | true => exact s K Z C σ.1 σ.2
    | false => exact t K Z C σ.1 σ.2
theorem r_brk {off : Int} (d : decode μ.2.1 p0 = .ok (.goto off, 3)) (ht : (p0 : Int) + off = (bk : Int)) : mj_Sm μ p0 p1 bk cn mx_brk := fun K Z C L h k => mj_goto C d ht k
theorem r_brk0 : mj_Sm μ bk p1 bk cn mx_brk := fun K Z C L h k => k
theorem r_cnt0 : mj_Sm μ cn p1 bk cn mx_cnt := fun K Z C L h k => k
theorem r_cgT {B : mj_X Bool} {j tgt : Nat} {off : Int} (d : decode μ.2.1 p1 = .ok (.goto off, 3)) (ht : (p1 : Int) + off = (tgt : Int)) (c : mj_Cd μ j p0 p1 p2 B) : mj_Cd μ j p0 tgt p2 B := fun K Z C L st h hst => by
  have h1 := c K Z C L st h hst
  unfold mj_T at h1 ⊢
  split at h1
  · rename_i b σ hf
    cases b with
    | true => exact fun k => h1 (mj_goto C d ht k)
    | false => exact h1
  · exact h1
  · trivial
theorem r_cgF {B : mj_X Bool} {j tgt : Nat} {off : Int} (d : decode μ.2.1 p2 = .ok (.goto off, 3)) (ht : (p2 : Int) + off = (tgt : Int)) (c : mj_Cd μ j p0 p1 p2 B) : mj_Cd μ j p0 p1 tgt B := fun K Z C L st h hst => by
  have h1 := c K Z C L st h hst
  unfold mj_T at h1 ⊢
  split at h1
  · rename_i b σ hf
    cases b with
    | true => exact h1
    | false => exact fun k => h1 (mj_goto C d ht k)
  · exact h1
  · trivial
theorem r_cnt {off : Int} (d : decode μ.2.1 p0 = .ok (.goto off, 3)) (ht : (p0 : Int) + off = (cn : Int)) : mj_Sm μ p0 p1 bk cn mx_cnt := fun K Z C L h k => mj_goto C d ht k
theorem mj_GR.at {K : mj_M} {Z : mj_Z} {v : Option Value} {h : mj_H} (C : mj_CC μ K Z) (k : mj_GR K Z v h) {i : Instr} (d : decode μ.2.1 p0 = .ok (i, 1)) (hi : mj_ri v = i) (L : mj_L) : mj_G K Z p0 L v.toList h := k p0 L (by rw [C.cd, hi]; exact d)
theorem r_reti {E : mj_X Int32} (d : decode μ.2.1 p1 = .ok (.ireturn, 1)) (e : mj_E .int μ 0 p0 p1 E) : mj_Sm μ p0 p2 bk cn (mx_ret .int E) := fun K Z C L h =>
  (e K Z C L [] h mj_0).bd fun x σ k => mj_GR.at C k d rfl σ.1
theorem r_retl {E : mj_X Int64} (d : decode μ.2.1 p1 = .ok (.lreturn, 1)) (e : mj_E .long μ 0 p0 p1 E) : mj_Sm μ p0 p2 bk cn (mx_ret .long E) := fun K Z C L h =>
  (e K Z C L [] h mj_0).bd fun x σ k => mj_GR.at C k d rfl σ.1
theorem r_retr {E : mj_X (Option Nat)} (d : decode μ.2.1 p1 = .ok (.areturn, 1)) (e : mj_E va_rf μ 0 p0 p1 E) : mj_Sm μ p0 p2 bk cn (mx_ret va_rf E) := fun K Z C L h =>
  (e K Z C L [] h mj_0).bd fun x σ k => mj_GR.at C k d (by cases x <;> rfl) σ.1
theorem r_rtv (d : decode μ.2.1 p0 = .ok (.return_, 1)) : mj_Sm μ p0 p1 bk cn mx_rtv := fun K Z C L h k => mj_GR.at C k d rfl L
theorem mj_lim_T {α : Type} {K : mj_M} {Z : mj_Z} {f : Nat → mj_X α} {σ : mj_S} {Q : α → mj_S → Prop} {goal : Prop} (k : ∀ n, mj_T μ K Z (f n σ) Q goal) : mj_T μ K Z (mj_lim f σ) Q goal := by
  unfold mj_lim
  by_cases e : ∃ n, ¬ mj_stk (f n σ)
  · rw [dif_pos e]; exact k _
  · rw [dif_neg e]; trivial
theorem r_loop {B : mj_X Bool} {S U : mj_X mj_F} (c : mj_Cd μ 0 p0 p1 pE B) (s : mj_Sm μ p1 p2 pE p2 S) (u : mj_Sm μ p2 p0 bk cn U) : mj_Sm μ p0 pE bk cn (mx_loop B S U) := fun K Z C L h => by
  refine mj_lim_T fun n => ?_
  induction n generalizing L h with
  | zero => trivial
  | succ n ih =>
    refine (c K Z C L [] h mj_0).bd fun b σ => ?_
    cases b with
    | false => exact fun k => k
    | true =>
      have nxt : ∀ τ : mj_S, mj_T μ K Z (mx_seq U (mj_wn B S U n) τ) (mj_Fw K Z pE bk cn) (mj_G K Z p2 τ.1 [] τ.2) := fun τ => by
        refine (u K Z C τ.1 τ.2).bd fun f υ => ?_
        cases f with
        | none => exact ih υ.1 υ.2
        | some x => exact fun k => mj_Fw_some k
      refine (s K Z C σ.1 σ.2).bd fun f τ => ?_
      cases f with
      | none => exact nxt τ
      | some x =>
        rcases x with v | b
        · exact fun k => k
        · cases b with
          | true => exact fun k => k
          | false => exact nxt τ
theorem r_do {B : mj_X Bool} {S : mj_X mj_F} (s : mj_Sm μ p0 p1 pE p1 S) (c : mj_Cd μ 0 p1 p0 pE B) : mj_Sm μ p0 pE bk cn (mx_do S B) := fun K Z C L h => by
  refine mj_lim_T fun n => ?_
  induction n generalizing L h with
  | zero => trivial
  | succ n ih =>
    have nxt : ∀ τ : mj_S, mj_T μ K Z (mj_bd (B τ) fun b σ => if b = true then mj_dn S B n σ else .ok none σ) (mj_Fw K Z pE bk cn) (mj_G K Z p1 τ.1 [] τ.2) := fun τ => by
      refine (c K Z C τ.1 [] τ.2 mj_0).bd fun b υ => ?_
      cases b with
      | true => exact ih υ.1 υ.2
      | false => exact fun k => k
    refine (s K Z C L h).bd fun f τ => ?_
    cases f with
    | none => exact nxt τ
    | some x =>
      rcases x with v | b
      · exact fun k => k
      · cases b with
        | true => exact fun k => k
        | false => exact nxt τ
/-! switch -/
def mj_Cs (μ : mj_I) (p1 : Nat) (lo hi : Int) (offs : Array Int) (pE cn : Nat) (cs : List (Int × mj_X mj_F)) : Prop := ∀ x S, (x, S) ∈ cs → ∃ (off : Int) (tgt : Nat), lo ≤ x ∧ x ≤ hi ∧ offs[(x - lo).toNat]? = some off ∧ (p1 : Int) + off = (tgt : Int) ∧ mj_Sm μ tgt pE pE cn S
theorem r_cs0 {lo hi : Int} {offs : Array Int} : mj_Cs μ p1 lo hi offs pE cn [] := fun x S h => nomatch h
theorem r_csS {lo hi x off : Int} {offs : Array Int} {tgt : Nat} {S : mj_X mj_F} {cs : List (Int × mj_X mj_F)} (h1 : lo ≤ x ∧ x ≤ hi) (h2 : offs[(x - lo).toNat]? = some off) (h3 : (p1 : Int) + off = (tgt : Int)) (s : mj_Sm μ tgt pE pE cn S) (r : mj_Cs μ p1 lo hi offs pE cn cs) : mj_Cs μ p1 lo hi offs pE cn ((x, S) :: cs) := fun y T h => by
  rcases List.mem_cons.mp h with e | e
  · cases e
    exact ⟨off, tgt, h1.1, h1.2, h2, h3, s⟩
  · exact r y T e
theorem mj_lookup_mem {α : Type} {x : Int} {S : α} : ∀ {cs : List (Int × α)}, cs.lookup x = some S → (x, S) ∈ cs
  | [], h => nomatch h
  | (y, T) :: cs, h => by
    rw [List.lookup_cons] at h
    split at h
    · rename_i e
      cases h
      rw [eq_of_beq e]
      exact List.mem_cons_self
    · exact List.mem_cons_of_mem _ (mj_lookup_mem h)
theorem mj_lookup_none {α : Type} {x : Int} : ∀ {cs : List (Int × α)}, cs.lookup x = none → (cs.map Prod.fst).contains x = false
  | [], h => rfl
  | (y, T) :: cs, h => by
    rw [List.lookup_cons] at h
    split at h
    · cases h
    · rename_i e
      rw [List.map_cons, List.contains_cons, e, mj_lookup_none h]
      rfl
theorem r_sw {E : mj_X Int32} {cs : List (Int × mj_X mj_F)} {D : mj_X mj_F} {dflt lo hi : Int} {offs : Array Int} {len pD : Nat} (d : decode μ.2.1 p1 = .ok (.tableswitch dflt lo hi offs, len)) (hs : mj_Cs μ p1 lo hi offs pE cn cs) (htD : (p1 : Int) + dflt = (pD : Int)) (hD : (List.range (hi - lo + 1).toNat).all (fun i => (cs.map Prod.fst).contains (lo + (i : Int)) || decide (offs[i]? = some dflt)) = true) (sD : mj_Sm μ pD pE pE cn D) (e : mj_E .int μ 0 p0 p1 E) : mj_Sm μ p0 pE bk cn (mx_sw E cs D) := fun K Z C L h => by
  refine (e K Z C L [] h mj_0).bd fun x σ => ?_
  have fin : ∀ {tgt : Nat} {S : mj_X mj_F}, mj_Sm μ tgt pE pE cn S → mj_T μ K Z (mj_bd (S σ) fun f σ => match f with | some (.inr true) => (.ok none σ : mj_R mj_F) | g => .ok g σ) (mj_Fw K Z pE bk cn) (mj_G K Z tgt σ.1 [] σ.2) := fun s => by
    refine (s K Z C σ.1 σ.2).bd fun f τ => ?_
    cases f with
    | none => exact fun k => k
    | some y =>
      rcases y with v | b
      · exact fun k => k
      · cases b <;> exact fun k => k
  cases hl : cs.lookup x.toInt with
  | some S =>
    obtain ⟨off, tgt, h1, h2, h3, h4, s⟩ := hs _ _ (mj_lookup_mem hl)
    exact (fin s).mono fun k => mj_tableIn C d (by omega) (by omega) h3 h4 k
  | none =>
    refine (fin sD).mono fun k => ?_
    by_cases h1 : x.toInt < lo
    · exact mj_tableOut C d (Or.inl h1) htD k
    by_cases h2 : hi < x.toInt
    · exact mj_tableOut C d (Or.inr h2) htD k
    have h3 := List.all_eq_true.mp hD (x.toInt - lo).toNat (List.mem_range.mpr (by omega))
    have h4 : lo + (((x.toInt - lo).toNat : Nat) : Int) = x.toInt := by omega
    rw [h4, mj_lookup_none hl, Bool.false_or] at h3
    exact mj_tableIn C d h1 h2 (of_decide_eq_true h3) htD k
/-! throw new X(); caught -/
theorem mj_throw {own : String} {cc : ByteArray} {nL fr : Nat} {ini : Bool} {hh : List (Nat × Nat × Nat × Nat)} {K : mj_M} {Z : mj_Z} {pc n : Nat} {L : mj_L} {h : mj_H} (C : mj_C0 own cc nL fr ini hh K Z) {ci : Nat} (hci : 3 ≤ ci) (hci2 : ci < 6) (d : decode cc pc = .ok (.athrow, 1)) (hn : (h.1 n).1 = 5 + ci) (k : mj_GX K Z pc L h ci) : mj_G K Z pc L [.ref n] h := by
  refine ⟨k.1, k.2.1, fun A B H ls locs r f g => ?_⟩
  obtain ⟨i1, i2⟩ := r.in (a := n) (by omega)
  have k3 := k.2.2 A B H ls locs [] (mj_t Z n)
  obtain ⟨κ, r6, r7⟩ := r.cell
  have he := mj_ws_at (t := mj_t Z) (κ := κ) (M := h.1) i1 i2
  rw [mj_e_obj hn] at he
  obtain ⟨q, hq, cell, g1, g2, g3, -⟩ := r6 _ _ he
  refine vx_athrow C.ex C.cd d (k3 cell r f g g1 g3 ?_)
  rw [g2]
  have h2 := (C.kk.1 ci q hq).2.1
  have e : q.1 = mj_cn ci := by
    rcases (show ci = 3 ∨ ci = 4 ∨ ci = 5 by omega) with e | e | e <;> subst e <;> cases hq <;> rfl
  rw [e] at h2
  exact h2
theorem r_thr {ci ik ic : Nat} {Cn : String} {T : u_T} {names : List String} (hc : mj_cl[ci]? = some (Cn, T, 0)) (hci : 3 ≤ ci) (hci2 : ci < 6) (hcls : Bundle.fit Cn = true) (hnames : ∀ n ∈ names, Bundle.fit n = true)
    (q1 : Jvm.Cond.classLink μ.1 ik Cn ∈ lw_all) (q2 : Jvm.Cond.initialized Cn ∈ lw_all) (hat : ∀ w ∈ vx_at0 μ.1 ic Cn names, w ∈ lw_all ∨ w ∈ mj_nest) (hgood : ∀ w ∈ Cond.classLink μ.1 ik Cn :: Cond.initialized Cn :: vx_at0 μ.1 ic Cn names, vx_ot w = true)
    (hfr : names.length + 4 ≤ μ.2.2.2.1) (hrg : μ.2.2.2.2.2.2 (p0 + 7) = true) (d0 : decode μ.2.1 p0 = .ok (.new ik, 3)) (d3 : decode μ.2.1 (p0 + 3) = .ok (.dup, 1)) (d4 : decode μ.2.1 (p0 + 4) = .ok (.invokespecial ic, 3)) (d7 : decode μ.2.1 (p0 + 7) = .ok (.athrow, 1)) : mj_Sm μ p0 p1 bk cn (mx_thr ci) := fun K Z C L h k => by
  refine mj_make C hc hci (by omega) hcls hnames q1 q2 hat hgood d0 d3 d4 hfr ?_ (mj_throw C hci hci2 d7 ?_ (k _ hrg))
  · show 0 + 13 * (names.length + 1) + 42 ≤ 100 * μ.2.2.2.1
    omega
  · show (mj_up h.1 h.2.1 (mj_c0 (5 + ci) 0) h.2.1).1 = 5 + ci
    rw [mj_up_s]
    rfl
theorem mj_s0_of {nL : Nat} {t : Nat → Nat} {L : mj_L} {ls : Array Slot} {i : Nat} {w : Value} (h : lv_has ls nL ((i, w) :: (mj_lv t L).filter (fun q => !(q.1 == i) && !(q.1 + 1 == i && q.2.category == 2)))) : mj_Lo t nL ((mj_clr L i).set i none) ls := by
  refine ⟨h.1, h.2.1, fun k v hk => ?_⟩
  by_cases e : i = k
  · subst e
    have hl : i < (mj_clr L i).length := by
      have := (List.getElem?_eq_some_iff.mp hk).1
      simpa using this
    rw [List.getElem?_set_self hl] at hk
    cases hk
  · rw [List.getElem?_set_ne e] at hk
    obtain ⟨h1, h2⟩ := mj_clr_at hk
    refine h.2.2 (k, mj_tv t v) (List.mem_cons_of_mem _ (List.mem_filter.mpr ⟨mj_lv_mem.mpr ⟨v, h1, rfl⟩, ?_⟩))
    simp only [Bool.and_eq_true, Bool.not_eq_true', beq_eq_false_iff_ne, ne_eq, Bool.and_eq_false_iff, mj_tv_cat]
    refine ⟨fun q => e q.symm, ?_⟩
    by_cases e2 : k + 1 = i
    · exact Or.inr fun q => h2 ⟨e2, q⟩
    · exact Or.inl e2
/-- the row of the table that takes ci, and how the handler begins: a store into the local k -/
def mj_Hd (μ : mj_I) (rg : Nat → Bool) (ci k hp hq : Nat) : Prop := ∀ K Z, mj_CC μ K Z → ∀ (L : mj_L) (h : mj_H), mj_G K Z hq ((mj_clr L k).set k none) [] h → ∀ p, rg p = true → mj_GX K Z p L h ci
theorem r_hd {rg : Nat → Bool} {ci k hp hq : Nat} (pre : List (Nat × Nat × Nat × Nat)) (x : Nat × Nat × Nat × Nat) (suf : List (Nat × Nat × Nat × Nat)) (hsplit : μ.2.2.2.2.2.1 = pre ++ x :: suf) (hci : 3 ≤ ci ∧ ci < 6) (hpass : ∀ z ∈ pre, z.2.2.2 ≠ 0 ∧ ∃ nm : String, Jvm.Cond.classLink μ.1 z.2.2.2 nm ∈ lw_all ∧ mj_cn ci = RJ3 ∧ (nm = RJ4 ∨ nm = RJ9))
    (hx : ∀ p, rg p = true → x.1 ≤ p ∧ p < x.2.1) (h0 : x.2.2.2 ≠ 0) (hhp : x.2.2.1 = hp) (q : Jvm.Cond.classLink μ.1 x.2.2.2 (mj_cn ci) ∈ lw_all) (hk : k < μ.2.2.1)
    (d : (∃ k0 : Fin 4, decode μ.2.1 hp = .ok (.astore_n k0, 1) ∧ (k0 : Nat) = k ∧ hq = hp + 1) ∨ (decode μ.2.1 hp = .ok (.astore k, 2) ∧ hq = hp + 2)) : mj_Hd μ rg ci k hp hq := fun K Z C L h kk p hp2 => by
  refine ⟨kk.1, kk.2.1, fun A B H ls locs rest q9 ce r f g g1 g2 g3 => ?_⟩
  have hw := C.wo
  obtain ⟨-, -, -, -, -, -, -, -, w9, w10, w11, -⟩ := hw
  refine vx_catch C.ow (tableOf pre) ⟨x.1, x.2.1, x.2.2.1, x.2.2.2⟩ (tableOf suf) (by rw [C.tb, hsplit]; simp [tableOf]) (fun z hz => ?_) ?_ h0 (C.ts _ q) ?_ g1 g2 g3 ?_
  · obtain ⟨z0, hz1, rfl⟩ := List.mem_map.mp hz
    obtain ⟨n1, nm, n2, n3, n4⟩ := hpass z0 hz1
    refine Or.inr ⟨n1, nm, C.ts _ n2, ?_⟩
    rw [n3]
    rcases n4 with rfl | rfl
    · exact w10
    · exact w11
  · obtain ⟨a1, a2⟩ := hx p hp2
    simp [covers, a1, a2]
  · rcases (show ci = 3 ∨ ci = 4 ∨ ci = 5 by omega) with e | e | e <;> subst e
    · exact va_Nw.use rfl (w9 (.castable RJ3 RJ3) (by simp [mj_nest]))
    · exact va_Nw.use rfl (w9 (.castable RJ4 RJ4) (by simp [mj_nest]))
    · exact va_Nw.use rfl (w9 (.castable RJ9 RJ9) (by simp [mj_nest]))
  · show mj_w K H locs _ _ (F0 (km K) x.2.2.1 ls [.ref q9])
    rw [hhp]
    rcases d with ⟨k0, d1, d2, d3⟩ | ⟨d1, d3⟩
    · subst d3
      exact lv_astore_n C.ex C.cd d1 d2 g.has (by rw [C.ml]; exact hk) rfl fun ls2 g4 => kk.2.2 A B H ls2 locs r f (mj_s0_of g4)
    · subst d3
      exact lv_astore C.ex C.cd d1 g.has (by rw [C.ml]; exact hk) rfl fun ls2 g4 => kk.2.2 A B H ls2 locs r f (mj_s0_of g4)
def mj_Hs (μ : mj_I) (rg : Nat → Bool) (p1 bk cn : Nat) (hs : List (Nat × Nat × mj_X mj_F)) : Prop := ∀ ci k S, hs.lookup ci = some (k, S) → ∃ hp hq, mj_Hd μ rg ci k hp hq ∧ mj_Sm μ hq p1 bk cn S
theorem r_hs0 {rg : Nat → Bool} : mj_Hs μ rg p1 bk cn [] := fun ci k S h => nomatch h
theorem r_hsS {rg : Nat → Bool} {ci k hp hq : Nat} {S : mj_X mj_F} {hs : List (Nat × Nat × mj_X mj_F)} (h : mj_Hd μ rg ci k hp hq) (s : mj_Sm μ hq p1 bk cn S) (r : mj_Hs μ rg p1 bk cn hs) : mj_Hs μ rg p1 bk cn ((ci, k, S) :: hs) := fun c k' T hl => by
  rw [List.lookup_cons] at hl
  split at hl
  · rename_i e
    cases hl
    rw [eq_of_beq e]
    exact ⟨hp, hq, h, s⟩
  · exact r c k' T hl
theorem r_try {rg : Nat → Bool} {S : mj_X mj_F} {hs : List (Nat × Nat × mj_X mj_F)} (s : mj_Sm (μ.1, μ.2.1, μ.2.2.1, μ.2.2.2.1, μ.2.2.2.2.1, μ.2.2.2.2.2.1, rg) p0 p1 bk cn S) (h : mj_Hs μ rg p1 bk cn hs) : mj_Sm μ p0 p1 bk cn (mx_try S hs) := fun K Z C L hp => by
  have h1 := s K Z C L hp
  unfold mx_try
  revert h1
  cases S (L, hp) with
  | ok f σ => exact fun h1 => h1
  | error e σ =>
    cases e with
    | none => exact fun _ => trivial
    | some ci =>
      intro h1
      dsimp only
      cases hl : hs.lookup ci with
      | none => trivial
      | some kS =>
        obtain ⟨k, T⟩ := kS
        obtain ⟨p, q, h2, h3⟩ := h ci k T hl
        exact (h3 K Z C _ _).mono fun kk => h1 fun p9 hp9 => h2 K Z C σ.1 σ.2 kk p9 hp9
end MjStm
