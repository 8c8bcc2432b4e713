/-! the rules: a piece of bytecode from pc on does what its combinator says -/
/-- own class, code, locals, frames, a constructor?, handlers, the places where a throw goes the same way -/
abbrev mj_I : Type := String × ByteArray × Nat × Nat × Bool × List (Nat × Nat × Nat × Nat) × (Nat → Bool)
abbrev mj_CC (μ : mj_I) (K : mj_M) (Z : mj_Z) : Prop := mj_C0 μ.1 μ.2.1 μ.2.2.1 μ.2.2.2.1 μ.2.2.2.2.1 μ.2.2.2.2.2.1 K Z
def mj_T {α : Type} (μ : mj_I) (K : mj_M) (Z : mj_Z) (r : mj_R α) (Q : α → mj_S → Prop) (goal : Prop) : Prop := match r with
  | .ok a σ => Q a σ → goal
  | .error (some ci) σ => (∀ p, μ.2.2.2.2.2.2 p = true → mj_GX K Z p σ.1 σ.2 ci) → goal
  | .error none _ => True
theorem mj_T.mono {α : Type} {μ : mj_I} {K : mj_M} {Z : mj_Z} {r : mj_R α} {Q : α → mj_S → Prop} {g1 g2 : Prop} (h : mj_T μ K Z r Q g1) (k : g1 → g2) : mj_T μ K Z r Q g2 := by
  unfold mj_T at h ⊢
  split at h
  · exact fun q => k (h q)
  · exact fun q => k (h q)
  · trivial
theorem mj_T.bd {α β : Type} {μ : mj_I} {K : mj_M} {Z : mj_Z} {r : mj_R α} {F : α → mj_S → mj_R β} {P : α → mj_S → Prop} {Q : β → mj_S → Prop} {goal : Prop} (h : mj_T μ K Z r P goal) (k : ∀ a σ, mj_T μ K Z (F a σ) Q (P a σ)) : mj_T μ K Z (mj_bd r F) Q goal := by
  cases r with
  | ok a σ => exact (k a σ).mono h
  | error e σ => cases e with
    | none => trivial
    | some ci => exact h
def mj_ri (v : Option Value) : Instr := match v with
  | none => .return_
  | some (.int _) => .ireturn
  | some (.long _) => .lreturn
  | some _ => .areturn
/-- a return of v with the cells h ends the method as it should -/
def mj_GR (K : mj_M) (Z : mj_Z) (v : Option Value) (h : mj_H) : Prop := ∀ (pc : Nat) (L : mj_L), decode (kc K).code pc = .ok (mj_ri v, 1) → mj_G K Z pc L v.toList h
def mj_E {α : Type} (τ : α → Value) (μ : mj_I) (j pc pc' : Nat) (E : mj_X α) : Prop := ∀ K Z, mj_CC μ K Z → ∀ (L : mj_L) (st : List Value) (h : mj_H), (st.map fun v => v.category).sum ≤ j → mj_T μ K Z (E (L, h)) (fun a σ => mj_G K Z pc' σ.1 (τ a :: st) σ.2) (mj_G K Z pc L st h)
def mj_Cd (μ : mj_I) (j pc pT pF : Nat) (C : mj_X Bool) : Prop := ∀ K Z, mj_CC μ K Z → ∀ (L : mj_L) (st : List Value) (h : mj_H), (st.map fun v => v.category).sum ≤ j → mj_T μ K Z (C (L, h)) (fun b σ => mj_G K Z (if b = true then pT else pF) σ.1 st σ.2) (mj_G K Z pc L st h)
def mj_Ar (μ : mj_I) (j pc pc' : Nat) (E : mj_X (List Value)) : Prop := ∀ K Z, mj_CC μ K Z → ∀ (L : mj_L) (st : List Value) (h : mj_H), (st.map fun v => v.category).sum ≤ j → mj_T μ K Z (E (L, h)) (fun vs σ => mj_G K Z pc' σ.1 (vs.reverse ++ st) σ.2) (mj_G K Z pc L st h)
def mj_Ec (μ : mj_I) (j pc pc' : Nat) (E : mj_X (Option Value)) : Prop := ∀ K Z, mj_CC μ K Z → ∀ (L : mj_L) (st : List Value) (h : mj_H), (st.map fun v => v.category).sum ≤ j → mj_T μ K Z (E (L, h)) (fun r σ => mj_G K Z pc' σ.1 (r.toList ++ st) σ.2) (mj_G K Z pc L st h)
def mj_Fw (K : mj_M) (Z : mj_Z) (pc' bk cn : Nat) (f : mj_F) (σ : mj_S) : Prop := match f with
  | none => mj_G K Z pc' σ.1 [] σ.2
  | some (.inl v) => mj_GR K Z v σ.2
  | some (.inr true) => mj_G K Z bk σ.1 [] σ.2
  | some (.inr false) => mj_G K Z cn σ.1 [] σ.2
def mj_Sm (μ : mj_I) (pc pc' bk cn : Nat) (S : mj_X mj_F) : Prop := ∀ K Z, mj_CC μ K Z → ∀ (L : mj_L) (h : mj_H), mj_T μ K Z (S (L, h)) (mj_Fw K Z pc' bk cn) (mj_G K Z pc L [] h)
theorem mj_cs1 {st : List Value} {v : Value} {j w : Nat} (hw : v.category = w) (h : (st.map fun v => v.category).sum ≤ j) : ((v :: st).map fun v => v.category).sum ≤ j + w := by
  rw [List.map_cons, List.sum_cons, hw]
  omega
theorem mj_wi (x : Int32) : (Value.int x).category = 1 := rfl
theorem mj_wl (x : Int64) : (Value.long x).category = 2 := rfl
theorem mj_wr (x : Option Nat) : (va_rf x).category = 1 := by cases x <;> rfl
theorem mj_ob_T {α : Type} {μ : mj_I} {K : mj_M} {Z : mj_Z} {ci : Nat} {r : Option Nat} {σ : mj_S} {F : Nat → mj_R α} {Q : α → mj_S → Prop} {goal : Prop} (k : ∀ a, r = some a → (σ.2.1 a).1 = 5 + ci → mj_T μ K Z (F a) Q goal) : mj_T μ K Z (mj_ob ci r σ F) Q goal := by
  unfold mj_ob
  split
  · split
    · exact k _ rfl ‹_›
    · trivial
  · trivial
theorem mj_ix_T {α : Type} {μ : mj_I} {K : mj_M} {Z : mj_Z} {kd : Nat → Bool} {r : Option Nat} {i : Int32} {σ : mj_S} {F : Nat → mj_R α} {Q : α → mj_S → Prop} {goal : Prop} (k : ∀ a, r = some a → kd (σ.2.1 a).1 = true → vp_in i (σ.2.1 a).2.1 → mj_T μ K Z (F a) Q goal) : mj_T μ K Z (mj_ix kd r i σ F) Q goal := by
  unfold mj_ix
  split
  · split
    · rename_i hq
      exact k _ rfl hq.1 (vp_in_iff.mpr hq.2)
    · trivial
  · trivial
def mj_ln (n : Nat) (r : mj_R (List Value)) : Prop := match r with
  | .ok vs _ => vs.length = n
  | _ => True
section MjRules
variable {μ : mj_I} {j p0 p1 p2 p3 p4 : Nat}
theorem r_iconst {n : Int} {v : Int32} (d : decode μ.2.1 p0 = .ok (.iconst n, 1)) (hv : Int32.ofInt n = v) : mj_E .int μ j p0 (p0 + 1) (mx_k v) := fun K Z C L st h _ k => mj_iconst C d hv k
theorem r_bipush {n : Int} {v : Int32} (d : decode μ.2.1 p0 = .ok (.bipush n, 2)) (hv : (Int8.ofInt n).toInt32 = v) : mj_E .int μ j p0 (p0 + 2) (mx_k v) := fun K Z C L st h _ k => mj_bipush C d hv k
theorem r_sipush {n : Int} {v : Int32} (d : decode μ.2.1 p0 = .ok (.sipush n, 3)) (hv : (Int16.ofInt n).toInt32 = v) : mj_E .int μ j p0 (p0 + 3) (mx_k v) := fun K Z C L st h _ k => mj_sipush C d hv k
theorem r_lconst {n : Fin 2} {v : Int64} (d : decode μ.2.1 p0 = .ok (.lconst n, 1)) (hv : Int64.ofNat (n : Nat) = v) : mj_E .long μ j p0 (p0 + 1) (mx_k v) := fun K Z C L st h _ k => mj_lconst C d hv k
theorem r_ldc {index : Nat} {v : Int32} (d : decode μ.2.1 p0 = .ok (.ldc index, 2)) (q : Jvm.Cond.constant μ.1 index v ∈ lw_all) : mj_E .int μ j p0 (p0 + 2) (mx_k v) := fun K Z C L st h _ k => mj_ldc C d q k
theorem r_ldcw {index : Nat} {v : Int32} (d : decode μ.2.1 p0 = .ok (.ldc_w index, 3)) (q : Jvm.Cond.constant μ.1 index v ∈ lw_all) : mj_E .int μ j p0 (p0 + 3) (mx_k v) := fun K Z C L st h _ k => mj_ldcw C d q k
theorem r_ldc2 {index : Nat} {v : Int64} (d : decode μ.2.1 p0 = .ok (.ldc2_w index, 3)) (q : Jvm.Cond.constantLong μ.1 index v ∈ lw_all) : mj_E .long μ j p0 (p0 + 3) (mx_k v) := fun K Z C L st h _ k => mj_ldc2 C d q k
theorem r_ldcS {index i : Nat} {tx : String} (ho : μ.1 = RX1) (d : decode μ.2.1 p0 = .ok (.ldc index, 2)) (ht : mj_tx[i]? = some (index, tx)) : mj_E va_rf μ j p0 (p0 + 2) (mx_k (some i)) := fun K Z C L st h _ k => by
  obtain ⟨own, μ2⟩ := μ
  dsimp only at ho
  subst ho
  exact mj_ldcS C ht d k
theorem r_ldcwS {index i : Nat} {tx : String} (ho : μ.1 = RX1) (d : decode μ.2.1 p0 = .ok (.ldc_w index, 3)) (ht : mj_tx[i]? = some (index, tx)) : mj_E va_rf μ j p0 (p0 + 3) (mx_k (some i)) := fun K Z C L st h _ k => by
  obtain ⟨own, μ2⟩ := μ
  dsimp only at ho
  subst ho
  exact mj_ldcwS C ht d k
theorem r_iload_n {k0 : Fin 4} {i : Nat} (d : decode μ.2.1 p0 = .ok (.iload_n k0, 1)) (hi : (k0 : Nat) = i) : mj_E .int μ j p0 (p0 + 1) (mx_v i) := fun K Z C L st h _ => by
  unfold mx_v
  dsimp only
  split
  · rename_i x hx
    exact fun k => mj_iload_n C d hi hx k
  · trivial
theorem r_iload {i : Nat} (d : decode μ.2.1 p0 = .ok (.iload i, 2)) : mj_E .int μ j p0 (p0 + 2) (mx_v i) := fun K Z C L st h _ => by
  unfold mx_v
  dsimp only
  split
  · rename_i x hx
    exact fun k => mj_iload C d hx k
  · trivial
theorem r_lload_n {k0 : Fin 4} {i : Nat} (d : decode μ.2.1 p0 = .ok (.lload_n k0, 1)) (hi : (k0 : Nat) = i) : mj_E .long μ j p0 (p0 + 1) (mx_vl i) := fun K Z C L st h _ => by
  unfold mx_vl
  dsimp only
  split
  · rename_i x hx
    exact fun k => mj_lload_n C d hi hx k
  · trivial
theorem r_lload {i : Nat} (d : decode μ.2.1 p0 = .ok (.lload i, 2)) : mj_E .long μ j p0 (p0 + 2) (mx_vl i) := fun K Z C L st h _ => by
  unfold mx_vl
  dsimp only
  split
  · rename_i x hx
    exact fun k => mj_lload C d hx k
  · trivial
theorem r_aload_n {k0 : Fin 4} {i : Nat} (d : decode μ.2.1 p0 = .ok (.aload_n k0, 1)) (hi : (k0 : Nat) = i) : mj_E va_rf μ j p0 (p0 + 1) (mx_vr i) := fun K Z C L st h _ => by
  unfold mx_vr
  dsimp only
  split
  · rename_i x hx
    exact fun k => mj_aload_n C d hi (x := some x) hx k
  · rename_i hx
    exact fun k => mj_aload_n C d hi (x := none) hx k
  · trivial
theorem r_aload {i : Nat} (d : decode μ.2.1 p0 = .ok (.aload i, 2)) : mj_E va_rf μ j p0 (p0 + 2) (mx_vr i) := fun K Z C L st h _ => by
  unfold mx_vr
  dsimp only
  split
  · rename_i x hx
    exact fun k => mj_aload C d (x := some x) hx k
  · rename_i hx
    exact fun k => mj_aload C d (x := none) hx k
  · trivial
theorem r_bin {α β γ : Type} {τ1 : α → Value} {τ2 : β → Value} {τ3 : γ → Value} {f : α → β → γ} {A : mj_X α} {B : mj_X β} {u : Nat} (hw : ∀ a, (τ1 a).category = u) (op : ∀ K Z, mj_CC μ K Z → ∀ (L : mj_L) (st : List Value) (h : mj_H) (a : α) (b : β), mj_G K Z p3 L (τ3 (f a b) :: st) h → mj_G K Z p2 L (τ2 b :: τ1 a :: st) h) (e1 : mj_E τ1 μ j p0 p1 A) (e2 : mj_E τ2 μ (j + u) p1 p2 B) : mj_E τ3 μ j p0 p3 (mx_bin f A B) := fun K Z C L st h hst =>
  (e1 K Z C L st h hst).bd fun a σ => (e2 K Z C σ.1 (τ1 a :: st) σ.2 (mj_cs1 (hw a) hst)).bd fun b σ' k => op K Z C σ'.1 st σ'.2 a b k
theorem r_dv {α γ : Type} [DecidableEq α] {τ1 : α → Value} {τ3 : γ → Value} {z : α} {f : α → α → γ} {A B : mj_X α} {u : Nat} (hw : ∀ a, (τ1 a).category = u) (op : ∀ K Z, mj_CC μ K Z → ∀ (L : mj_L) (st : List Value) (h : mj_H) (a b : α), ¬ b = z → mj_G K Z p3 L (τ3 (f a b) :: st) h → mj_G K Z p2 L (τ1 b :: τ1 a :: st) h) (e1 : mj_E τ1 μ j p0 p1 A) (e2 : mj_E τ1 μ (j + u) p1 p2 B) : mj_E τ3 μ j p0 p3 (mx_dv z f A B) := fun K Z C L st h hst =>
  (e1 K Z C L st h hst).bd fun a σ => (e2 K Z C σ.1 (τ1 a :: st) σ.2 (mj_cs1 (hw a) hst)).bd fun b σ' => by
    by_cases hz : b = z
    · rw [if_pos hz]; trivial
    · rw [if_neg hz]; exact fun k => op K Z C σ'.1 st σ'.2 a b hz k
theorem r_un {α β : Type} {τ1 : α → Value} {τ3 : β → Value} {f : α → β} {A : mj_X α} (op : ∀ K Z, mj_CC μ K Z → ∀ (L : mj_L) (st : List Value) (h : mj_H) (a : α), mj_G K Z p3 L (τ3 (f a) :: st) h → mj_G K Z p2 L (τ1 a :: st) h) (e1 : mj_E τ1 μ j p0 p2 A) : mj_E τ3 μ j p0 p3 (mx_un f A) := fun K Z C L st h hst =>
  (e1 K Z C L st h hst).bd fun a σ k => op K Z C σ.1 st σ.2 a k
def o_iadd (x y : Int32) : Int32 := x + y
theorem r_iadd {A B : mj_X Int32} (d : decode μ.2.1 p2 = .ok (.iadd, 1)) (e1 : mj_E .int μ j p0 p1 A) (e2 : mj_E .int μ (j + 1) p1 p2 B) : mj_E .int μ j p0 (p2 + 1) (mx_bin o_iadd A B) := r_bin mj_wi (fun K Z C L st h a b k => mj_iadd C d k) e1 e2
def o_isub (x y : Int32) : Int32 := x - y
theorem r_isub {A B : mj_X Int32} (d : decode μ.2.1 p2 = .ok (.isub, 1)) (e1 : mj_E .int μ j p0 p1 A) (e2 : mj_E .int μ (j + 1) p1 p2 B) : mj_E .int μ j p0 (p2 + 1) (mx_bin o_isub A B) := r_bin mj_wi (fun K Z C L st h a b k => mj_isub C d k) e1 e2
def o_imul (x y : Int32) : Int32 := x * y
theorem r_imul {A B : mj_X Int32} (d : decode μ.2.1 p2 = .ok (.imul, 1)) (e1 : mj_E .int μ j p0 p1 A) (e2 : mj_E .int μ (j + 1) p1 p2 B) : mj_E .int μ j p0 (p2 + 1) (mx_bin o_imul A B) := r_bin mj_wi (fun K Z C L st h a b k => mj_imul C d k) e1 e2
def o_iand (x y : Int32) : Int32 := x &&& y
theorem r_iand {A B : mj_X Int32} (d : decode μ.2.1 p2 = .ok (.iand, 1)) (e1 : mj_E .int μ j p0 p1 A) (e2 : mj_E .int μ (j + 1) p1 p2 B) : mj_E .int μ j p0 (p2 + 1) (mx_bin o_iand A B) := r_bin mj_wi (fun K Z C L st h a b k => mj_iand C d k) e1 e2
def o_ior (x y : Int32) : Int32 := x ||| y
theorem r_ior {A B : mj_X Int32} (d : decode μ.2.1 p2 = .ok (.ior, 1)) (e1 : mj_E .int μ j p0 p1 A) (e2 : mj_E .int μ (j + 1) p1 p2 B) : mj_E .int μ j p0 (p2 + 1) (mx_bin o_ior A B) := r_bin mj_wi (fun K Z C L st h a b k => mj_ior C d k) e1 e2
def o_ixor (x y : Int32) : Int32 := x ^^^ y
theorem r_ixor {A B : mj_X Int32} (d : decode μ.2.1 p2 = .ok (.ixor, 1)) (e1 : mj_E .int μ j p0 p1 A) (e2 : mj_E .int μ (j + 1) p1 p2 B) : mj_E .int μ j p0 (p2 + 1) (mx_bin o_ixor A B) := r_bin mj_wi (fun K Z C L st h a b k => mj_ixor C d k) e1 e2
def o_ishl (x y : Int32) : Int32 := x <<< (y &&& 31)
theorem r_ishl {A B : mj_X Int32} (d : decode μ.2.1 p2 = .ok (.ishl, 1)) (e1 : mj_E .int μ j p0 p1 A) (e2 : mj_E .int μ (j + 1) p1 p2 B) : mj_E .int μ j p0 (p2 + 1) (mx_bin o_ishl A B) := r_bin mj_wi (fun K Z C L st h a b k => mj_ishl C d k) e1 e2
def o_ishr (x y : Int32) : Int32 := x >>> (y &&& 31)
theorem r_ishr {A B : mj_X Int32} (d : decode μ.2.1 p2 = .ok (.ishr, 1)) (e1 : mj_E .int μ j p0 p1 A) (e2 : mj_E .int μ (j + 1) p1 p2 B) : mj_E .int μ j p0 (p2 + 1) (mx_bin o_ishr A B) := r_bin mj_wi (fun K Z C L st h a b k => mj_ishr C d k) e1 e2
def o_ladd (x y : Int64) : Int64 := x + y
theorem r_ladd {A B : mj_X Int64} (d : decode μ.2.1 p2 = .ok (.ladd, 1)) (e1 : mj_E .long μ j p0 p1 A) (e2 : mj_E .long μ (j + 2) p1 p2 B) : mj_E .long μ j p0 (p2 + 1) (mx_bin o_ladd A B) := r_bin mj_wl (fun K Z C L st h a b k => mj_ladd C d k) e1 e2
def o_lsub (x y : Int64) : Int64 := x - y
theorem r_lsub {A B : mj_X Int64} (d : decode μ.2.1 p2 = .ok (.lsub, 1)) (e1 : mj_E .long μ j p0 p1 A) (e2 : mj_E .long μ (j + 2) p1 p2 B) : mj_E .long μ j p0 (p2 + 1) (mx_bin o_lsub A B) := r_bin mj_wl (fun K Z C L st h a b k => mj_lsub C d k) e1 e2
def o_lmul (x y : Int64) : Int64 := x * y
theorem r_lmul {A B : mj_X Int64} (d : decode μ.2.1 p2 = .ok (.lmul, 1)) (e1 : mj_E .long μ j p0 p1 A) (e2 : mj_E .long μ (j + 2) p1 p2 B) : mj_E .long μ j p0 (p2 + 1) (mx_bin o_lmul A B) := r_bin mj_wl (fun K Z C L st h a b k => mj_lmul C d k) e1 e2
def o_land (x y : Int64) : Int64 := x &&& y
theorem r_land {A B : mj_X Int64} (d : decode μ.2.1 p2 = .ok (.land, 1)) (e1 : mj_E .long μ j p0 p1 A) (e2 : mj_E .long μ (j + 2) p1 p2 B) : mj_E .long μ j p0 (p2 + 1) (mx_bin o_land A B) := r_bin mj_wl (fun K Z C L st h a b k => mj_land C d k) e1 e2
def o_lor (x y : Int64) : Int64 := x ||| y
theorem r_lor {A B : mj_X Int64} (d : decode μ.2.1 p2 = .ok (.lor, 1)) (e1 : mj_E .long μ j p0 p1 A) (e2 : mj_E .long μ (j + 2) p1 p2 B) : mj_E .long μ j p0 (p2 + 1) (mx_bin o_lor A B) := r_bin mj_wl (fun K Z C L st h a b k => mj_lor C d k) e1 e2
def o_iushr (x y : Int32) : Int32 := (x.toUInt32 >>> (y.toUInt32 &&& Int32.toUInt32 31)).toInt32
theorem r_iushr {A B : mj_X Int32} (d : decode μ.2.1 p2 = .ok (.iushr, 1)) (e1 : mj_E .int μ j p0 p1 A) (e2 : mj_E .int μ (j + 1) p1 p2 B) : mj_E .int μ j p0 (p2 + 1) (mx_bin o_iushr A B) := r_bin mj_wi (fun K Z C L st h a b k => mj_iushr C d rfl k) e1 e2
def o_lshl (x : Int64) (y : Int32) : Int64 := x <<< (y.toInt64 &&& 63)
theorem r_lshl {A : mj_X Int64} {B : mj_X Int32} (d : decode μ.2.1 p2 = .ok (.lshl, 1)) (e1 : mj_E .long μ j p0 p1 A) (e2 : mj_E .int μ (j + 2) p1 p2 B) : mj_E .long μ j p0 (p2 + 1) (mx_bin o_lshl A B) := r_bin mj_wl (fun K Z C L st h a b k => mj_lshl C d rfl k) e1 e2
def o_lshr (x : Int64) (y : Int32) : Int64 := x >>> (y.toInt64 &&& 63)
theorem r_lshr {A : mj_X Int64} {B : mj_X Int32} (d : decode μ.2.1 p2 = .ok (.lshr, 1)) (e1 : mj_E .long μ j p0 p1 A) (e2 : mj_E .int μ (j + 2) p1 p2 B) : mj_E .long μ j p0 (p2 + 1) (mx_bin o_lshr A B) := r_bin mj_wl (fun K Z C L st h a b k => mj_lshr C d rfl k) e1 e2
def o_idiv (x y : Int32) : Int32 := x / y
theorem r_idiv {A B : mj_X Int32} (d : decode μ.2.1 p2 = .ok (.idiv, 1)) (e1 : mj_E .int μ j p0 p1 A) (e2 : mj_E .int μ (j + 1) p1 p2 B) : mj_E .int μ j p0 (p2 + 1) (mx_dv 0 o_idiv A B) := r_dv mj_wi (fun K Z C L st h a b hz k => mj_idiv C d hz k) e1 e2
def o_irem (x y : Int32) : Int32 := x - x / y * y
theorem r_irem {A B : mj_X Int32} (d : decode μ.2.1 p2 = .ok (.irem, 1)) (e1 : mj_E .int μ j p0 p1 A) (e2 : mj_E .int μ (j + 1) p1 p2 B) : mj_E .int μ j p0 (p2 + 1) (mx_dv 0 o_irem A B) := r_dv mj_wi (fun K Z C L st h a b hz k => mj_irem C d hz k) e1 e2
def o_ldiv (x y : Int64) : Int64 := x / y
theorem r_ldiv {A B : mj_X Int64} (d : decode μ.2.1 p2 = .ok (.ldiv, 1)) (e1 : mj_E .long μ j p0 p1 A) (e2 : mj_E .long μ (j + 2) p1 p2 B) : mj_E .long μ j p0 (p2 + 1) (mx_dv 0 o_ldiv A B) := r_dv mj_wl (fun K Z C L st h a b hz k => mj_ldiv C d hz k) e1 e2
def o_lrem (x y : Int64) : Int64 := x - x / y * y
theorem r_lrem {A B : mj_X Int64} (d : decode μ.2.1 p2 = .ok (.lrem, 1)) (e1 : mj_E .long μ j p0 p1 A) (e2 : mj_E .long μ (j + 2) p1 p2 B) : mj_E .long μ j p0 (p2 + 1) (mx_dv 0 o_lrem A B) := r_dv mj_wl (fun K Z C L st h a b hz k => mj_lrem C d hz k) e1 e2
def o_ineg (x : Int32) : Int32 := -x
theorem r_ineg {A : mj_X Int32} (d : decode μ.2.1 p2 = .ok (.ineg, 1)) (e1 : mj_E .int μ j p0 p2 A) : mj_E .int μ j p0 (p2 + 1) (mx_un o_ineg A) := r_un (fun K Z C L st h a k => mj_ineg C d k) e1
def o_lneg (x : Int64) : Int64 := -x
theorem r_lneg {A : mj_X Int64} (d : decode μ.2.1 p2 = .ok (.lneg, 1)) (e1 : mj_E .long μ j p0 p2 A) : mj_E .long μ j p0 (p2 + 1) (mx_un o_lneg A) := r_un (fun K Z C L st h a k => mj_lneg C d k) e1
def o_i2l (x : Int32) : Int64 := x.toInt64
theorem r_i2l {A : mj_X Int32} (d : decode μ.2.1 p2 = .ok (.i2l, 1)) (e1 : mj_E .int μ j p0 p2 A) : mj_E .long μ j p0 (p2 + 1) (mx_un o_i2l A) := r_un (fun K Z C L st h a k => mj_i2l C d rfl k) e1
def o_l2i (x : Int64) : Int32 := x.toInt32
theorem r_l2i {A : mj_X Int64} (d : decode μ.2.1 p2 = .ok (.l2i, 1)) (e1 : mj_E .long μ j p0 p2 A) : mj_E .int μ j p0 (p2 + 1) (mx_un o_l2i A) := r_un (fun K Z C L st h a k => mj_l2i C d rfl k) e1
def o_i2b (x : Int32) : Int32 := x.toInt8.toInt32
theorem r_i2b {A : mj_X Int32} (d : decode μ.2.1 p2 = .ok (.i2b, 1)) (e1 : mj_E .int μ j p0 p2 A) : mj_E .int μ j p0 (p2 + 1) (mx_un o_i2b A) := r_un (fun K Z C L st h a k => mj_i2b C d rfl k) e1
def o_i2s (x : Int32) : Int32 := x.toInt16.toInt32
theorem r_i2s {A : mj_X Int32} (d : decode μ.2.1 p2 = .ok (.i2s, 1)) (e1 : mj_E .int μ j p0 p2 A) : mj_E .int μ j p0 (p2 + 1) (mx_un o_i2s A) := r_un (fun K Z C L st h a k => mj_i2s C d rfl k) e1
theorem r_get {ci N k index : Nat} {Cn : String} {T : u_T} {O : mj_X (Option Nat)} (hc : mj_cl[ci]? = some (Cn, T, N)) (hin : ∀ w ∈ u_ws Cn T N, w ∈ lw_all) (hk : k < N) (hN : mj_N ci = N) (hci : ci < 50) (hT : (T k).1 = Cn) (hf : ∀ i jj r, mj_fv (mj_ty ci k) i jj r = .int i) (q : Jvm.Cond.fieldLink μ.1 index Cn (T k).2.1 (T k).2.2.1 ∈ lw_all) (d : decode μ.2.1 p1 = .ok (.getfield index, 3)) (e : mj_E va_rf μ j p0 p1 O) : mj_E .int μ j p0 (p1 + 3) (mx_get ci k O) := fun K Z C L st h hst =>
  (e K Z C L st h hst).bd fun r σ => mj_ob_T fun a hr ha => by
    subst hr
    exact fun kk => mj_get C hc hin hk hN hci q hT d ha (fun t => hf _ _ _) kk
theorem r_getl {ci N k index : Nat} {Cn : String} {T : u_T} {O : mj_X (Option Nat)} (hc : mj_cl[ci]? = some (Cn, T, N)) (hin : ∀ w ∈ u_ws Cn T N, w ∈ lw_all) (hk : k < N) (hN : mj_N ci = N) (hci : ci < 50) (hT : (T k).1 = Cn) (hf : ∀ i jj r, mj_fv (mj_ty ci k) i jj r = .long jj) (q : Jvm.Cond.fieldLink μ.1 index Cn (T k).2.1 (T k).2.2.1 ∈ lw_all) (d : decode μ.2.1 p1 = .ok (.getfield index, 3)) (e : mj_E va_rf μ j p0 p1 O) : mj_E .long μ j p0 (p1 + 3) (mx_getl ci k O) := fun K Z C L st h hst =>
  (e K Z C L st h hst).bd fun r σ => mj_ob_T fun a hr ha => by
    subst hr
    exact fun kk => mj_get C hc hin hk hN hci q hT d ha (fun t => hf _ _ _) kk
theorem r_getr {ci N k index : Nat} {Cn : String} {T : u_T} {O : mj_X (Option Nat)} (hc : mj_cl[ci]? = some (Cn, T, N)) (hin : ∀ w ∈ u_ws Cn T N, w ∈ lw_all) (hk : k < N) (hN : mj_N ci = N) (hci : ci < 50) (hT : (T k).1 = Cn) (hf : ∀ i jj r, mj_fv (mj_ty ci k) i jj r = r) (q : Jvm.Cond.fieldLink μ.1 index Cn (T k).2.1 (T k).2.2.1 ∈ lw_all) (d : decode μ.2.1 p1 = .ok (.getfield index, 3)) (e : mj_E va_rf μ j p0 p1 O) : mj_E va_rf μ j p0 (p1 + 3) (mx_getr ci k O) := fun K Z C L st h hst =>
  (e K Z C L st h hst).bd fun r σ => mj_ob_T fun a hr ha => by
    subst hr
    exact fun kk => mj_get C hc hin hk hN hci q hT d ha (fun t => (hf _ _ _).trans (mj_tv_rf _ _).symm) kk
theorem r_getN {ci N k index : Nat} {Cn host : String} {T : u_T} {O : mj_X (Option Nat)} (hc : mj_cl[ci]? = some (Cn, T, N)) (hin : ∀ w ∈ u_ws Cn T N, w ∈ lw_all) (hk : k < N) (hN : mj_N ci = N) (hci : ci < 50) (hT : (T k).1 = Cn) (hf : ∀ i jj r, mj_fv (mj_ty ci k) i jj r = .int i) (q : Jvm.Cond.fieldLinkNest μ.1 index Cn (T k).2.1 (T k).2.2.1 host ∈ mj_nest) (d : decode μ.2.1 p1 = .ok (.getfield index, 3)) (e : mj_E va_rf μ j p0 p1 O) : mj_E .int μ j p0 (p1 + 3) (mx_get ci k O) := fun K Z C L st h hst =>
  (e K Z C L st h hst).bd fun r σ => mj_ob_T fun a hr ha => by
    subst hr
    exact fun kk => mj_getN C hc hin hk hN hci q hT d ha (fun t => hf _ _ _) kk
theorem r_getrN {ci N k index : Nat} {Cn host : String} {T : u_T} {O : mj_X (Option Nat)} (hc : mj_cl[ci]? = some (Cn, T, N)) (hin : ∀ w ∈ u_ws Cn T N, w ∈ lw_all) (hk : k < N) (hN : mj_N ci = N) (hci : ci < 50) (hT : (T k).1 = Cn) (hf : ∀ i jj r, mj_fv (mj_ty ci k) i jj r = r) (q : Jvm.Cond.fieldLinkNest μ.1 index Cn (T k).2.1 (T k).2.2.1 host ∈ mj_nest) (d : decode μ.2.1 p1 = .ok (.getfield index, 3)) (e : mj_E va_rf μ j p0 p1 O) : mj_E va_rf μ j p0 (p1 + 3) (mx_getr ci k O) := fun K Z C L st h hst =>
  (e K Z C L st h hst).bd fun r σ => mj_ob_T fun a hr ha => by
    subst hr
    exact fun kk => mj_getN C hc hin hk hN hci q hT d ha (fun t => (hf _ _ _).trans (mj_tv_rf _ _).symm) kk
theorem r_baload {A : mj_X (Option Nat)} {I : mj_X Int32} (d : decode μ.2.1 p2 = .ok (.baload, 1)) (e1 : mj_E va_rf μ j p0 p1 A) (e2 : mj_E .int μ (j + 1) p1 p2 I) : mj_E .int μ j p0 (p2 + 1) (mx_ab A I) := fun K Z C L st h hst =>
  (e1 K Z C L st h hst).bd fun r σ => (e2 K Z C σ.1 (va_rf r :: st) σ.2 (mj_cs1 (mj_wr r) hst)).bd fun i τ => mj_ix_T fun a hr ha hi => by
    subst hr
    exact fun kk => mj_bald C d (by simpa [mj_kb] using ha) hi kk
theorem r_iaload {A : mj_X (Option Nat)} {I : mj_X Int32} (d : decode μ.2.1 p2 = .ok (.iaload, 1)) (e1 : mj_E va_rf μ j p0 p1 A) (e2 : mj_E .int μ (j + 1) p1 p2 I) : mj_E .int μ j p0 (p2 + 1) (mx_ai A I) := fun K Z C L st h hst =>
  (e1 K Z C L st h hst).bd fun r σ => (e2 K Z C σ.1 (va_rf r :: st) σ.2 (mj_cs1 (mj_wr r) hst)).bd fun i τ => mj_ix_T fun a hr ha hi => by
    subst hr
    exact fun kk => mj_iald C d (by simpa [mj_k1] using ha) hi kk
theorem r_laload {A : mj_X (Option Nat)} {I : mj_X Int32} (d : decode μ.2.1 p2 = .ok (.laload, 1)) (e1 : mj_E va_rf μ j p0 p1 A) (e2 : mj_E .int μ (j + 1) p1 p2 I) : mj_E .long μ j p0 (p2 + 1) (mx_al A I) := fun K Z C L st h hst =>
  (e1 K Z C L st h hst).bd fun r σ => (e2 K Z C σ.1 (va_rf r :: st) σ.2 (mj_cs1 (mj_wr r) hst)).bd fun i τ => mj_ix_T fun a hr ha hi => by
    subst hr
    exact fun kk => mj_lald C d (by simpa [mj_k2] using ha) hi kk
theorem r_aaload {A : mj_X (Option Nat)} {I : mj_X Int32} (d : decode μ.2.1 p2 = .ok (.aaload, 1)) (e1 : mj_E va_rf μ j p0 p1 A) (e2 : mj_E .int μ (j + 1) p1 p2 I) : mj_E va_rf μ j p0 (p2 + 1) (mx_ar A I) := fun K Z C L st h hst =>
  (e1 K Z C L st h hst).bd fun r σ => (e2 K Z C σ.1 (va_rf r :: st) σ.2 (mj_cs1 (mj_wr r) hst)).bd fun i τ => mj_ix_T fun a hr ha hi => by
    subst hr
    exact fun kk => mj_aald C d (by simpa [mj_k4] using ha) hi kk
theorem r_script {A : mj_X (Option Nat)} {I : mj_X Int32} (d : decode μ.2.1 p2 = .ok (.iaload, 1)) (e1 : mj_E va_rf μ j p0 p1 A) (e2 : mj_E .int μ (j + 1) p1 p2 I) : mj_E .int μ j p0 (p2 + 1) (mx_sc A I) := fun K Z C L st h hst =>
  (e1 K Z C L st h hst).bd fun r σ => (e2 K Z C σ.1 (va_rf r :: st) σ.2 (mj_cs1 (mj_wr r) hst)).bd fun i τ => mj_ix_T fun a hr ha hi => by
    subst hr
    by_cases e : a = 26
    · subst e
      rw [if_pos rfl]
      exact fun kk => mj_sld C d hi kk
    · rw [if_neg e]; trivial
theorem r_slen {A : mj_X (Option Nat)} (d : decode μ.2.1 p1 = .ok (.arraylength, 1)) (e1 : mj_E va_rf μ j p0 p1 A) : mj_E .int μ j p0 (p1 + 1) (mx_len A) := fun K Z C L st h hst =>
  (e1 K Z C L st h hst).bd fun r σ => by
    by_cases e : r = some 26
    · subst e
      rw [if_pos rfl]
      exact fun kk => mj_slen C d kk
    · rw [if_neg e]; trivial
theorem r_egoto {α : Type} {τ : α → Value} {A : mj_X α} {off : Int} {tgt : Nat} (d : decode μ.2.1 p1 = .ok (.goto off, 3)) (ht : (p1 : Int) + off = (tgt : Int)) (e : mj_E τ μ j p0 p1 A) : mj_E τ μ j p0 tgt A := fun K Z C L st h hst => by
  have h1 := e K Z C L st h hst
  unfold mj_T at h1 ⊢
  split at h1
  · exact fun k => h1 (mj_goto C d ht k)
  · exact h1
  · trivial
theorem r_cond {α : Type} {τ : α → Value} {B : mj_X Bool} {A1 A2 : mj_X α} (c : mj_Cd μ j p0 p1 p2 B) (e1 : mj_E τ μ j p1 p3 A1) (e2 : mj_E τ μ j p2 p3 A2) : mj_E τ μ j p0 p3 (mx_cond B A1 A2) := fun K Z C L st h hst =>
  (c K Z C L st h hst).bd fun b σ => by
    cases b with
    | true => exact e1 K Z C σ.1 st σ.2 hst
    | false => exact e2 K Z C σ.1 st σ.2 hst
theorem r_ofc {B : mj_X Bool} {off : Int} (c : mj_Cd μ j p0 p1 p2 B) (d1 : decode μ.2.1 p1 = .ok (.iconst 1, 1)) (dg : decode μ.2.1 (p1 + 1) = .ok (.goto off, 3)) (d0 : decode μ.2.1 p2 = .ok (.iconst 0, 1)) (ht : ((p1 + 1 : Nat) : Int) + off = ((p2 + 1 : Nat) : Int)) : mj_E .int μ j p0 (p2 + 1) (mx_ofc B) := fun K Z C L st h hst =>
  (c K Z C L st h hst).bd fun b σ => by
    cases b with
    | true => exact fun k => mj_iconst C d1 (v := 1) rfl (mj_goto C dg ht k)
    | false => exact fun k => mj_iconst C d0 (v := 0) rfl k
/-- the same where 0 comes first: if the condition holds the jump is to the 1 -/
theorem r_ofc0 {B : mj_X Bool} {off : Int} (c : mj_Cd μ j p0 p1 p2 B) (d1 : decode μ.2.1 p1 = .ok (.iconst 1, 1)) (d0 : decode μ.2.1 p2 = .ok (.iconst 0, 1)) (dg : decode μ.2.1 (p2 + 1) = .ok (.goto off, 3)) (ht : ((p2 + 1 : Nat) : Int) + off = ((p1 + 1 : Nat) : Int)) : mj_E .int μ j p0 (p1 + 1) (mx_ofc B) := fun K Z C L st h hst =>
  (c K Z C L st h hst).bd fun b σ => by
    cases b with
    | true => exact fun k => mj_iconst C d1 (v := 1) rfl k
    | false => exact fun k => mj_iconst C d0 (v := 0) rfl (mj_goto C dg ht k)
theorem mj_ift {c : Prop} [Decidable c] {b : Bool} (h : b = true ↔ c) {K : mj_M} {Z : mj_Z} {t f : Nat} {L : mj_L} {st : List Value} {hp : mj_H} (k : mj_G K Z (if b = true then t else f) L st hp) : mj_G K Z (if c then t else f) L st hp := by
  by_cases e : c
  · rw [if_pos (h.mpr e)] at k; rw [if_pos e]; exact k
  · rw [if_neg (fun q => e (h.mp q))] at k; rw [if_neg e]; exact k
theorem mj_iff {c : Prop} [Decidable c] {b : Bool} (h : b = true ↔ ¬ c) {K : mj_M} {Z : mj_Z} {t f : Nat} {L : mj_L} {st : List Value} {hp : mj_H} (k : mj_G K Z (if b = true then t else f) L st hp) : mj_G K Z (if c then f else t) L st hp := by
  by_cases e : c
  · rw [if_neg (fun q => (h.mp q) e)] at k; rw [if_pos e]; exact k
  · rw [if_pos (h.mpr e)] at k; rw [if_neg e]; exact k
theorem mj_ilt (x y : Int32) : ¬ y ≤ x ↔ x < y := Int32.not_le
theorem mj_ile (x y : Int32) : ¬ y < x ↔ x ≤ y := Int32.not_lt
theorem mj_llt (x y : Int64) : ¬ y ≤ x ↔ x < y := Int64.not_le
theorem mj_lle (x y : Int64) : ¬ y < x ↔ x ≤ y := Int64.not_lt
def c_eq (x y : Int32) : Bool := decide (x = y)
def z_eq (x : Int32) : Bool := decide (x = 0)
def l_eq (x y : Int64) : Bool := decide (x = y)
theorem r_ceq_t {A B : mj_X Int32} {off : Int} {tgt : Nat} (d : decode μ.2.1 p2 = .ok (.if_icmp .eq off, 3)) (ht : (p2 : Int) + off = (tgt : Int)) (e1 : mj_E .int μ j p0 p1 A) (e2 : mj_E .int μ (j + 1) p1 p2 B) : mj_Cd μ j p0 tgt (p2 + 3) (mx_cmp c_eq A B) := fun K Z C L st h hst =>
  (e1 K Z C L st h hst).bd fun a σ => (e2 K Z C σ.1 (.int a :: st) σ.2 (mj_cs1 (mj_wi a) hst)).bd fun b τ k => mj_icmp_eq C d ht (mj_ift (by simp [c_eq]) k)
theorem r_ceq_f {A B : mj_X Int32} {off : Int} {tgt : Nat} (d : decode μ.2.1 p2 = .ok (.if_icmp .ne off, 3)) (ht : (p2 : Int) + off = (tgt : Int)) (e1 : mj_E .int μ j p0 p1 A) (e2 : mj_E .int μ (j + 1) p1 p2 B) : mj_Cd μ j p0 (p2 + 3) tgt (mx_cmp c_eq A B) := fun K Z C L st h hst =>
  (e1 K Z C L st h hst).bd fun a σ => (e2 K Z C σ.1 (.int a :: st) σ.2 (mj_cs1 (mj_wi a) hst)).bd fun b τ k => mj_icmp_ne C d ht (mj_iff (by simp [c_eq, mj_ilt, mj_ile]) k)
theorem r_zeq_t {A : mj_X Int32} {off : Int} {tgt : Nat} (d : decode μ.2.1 p1 = .ok (.ifCond .eq off, 3)) (ht : (p1 : Int) + off = (tgt : Int)) (e1 : mj_E .int μ j p0 p1 A) : mj_Cd μ j p0 tgt (p1 + 3) (mx_is z_eq A) := fun K Z C L st h hst =>
  (e1 K Z C L st h hst).bd fun a σ k => mj_if_eq C d ht (mj_ift (by simp [z_eq]) k)
theorem r_zeq_f {A : mj_X Int32} {off : Int} {tgt : Nat} (d : decode μ.2.1 p1 = .ok (.ifCond .ne off, 3)) (ht : (p1 : Int) + off = (tgt : Int)) (e1 : mj_E .int μ j p0 p1 A) : mj_Cd μ j p0 (p1 + 3) tgt (mx_is z_eq A) := fun K Z C L st h hst =>
  (e1 K Z C L st h hst).bd fun a σ k => mj_if_ne C d ht (mj_iff (by simp [z_eq, mj_ilt, mj_ile]) k)
theorem r_leq_t {A B : mj_X Int64} {off : Int} {tgt : Nat} (dl : decode μ.2.1 p2 = .ok (.lcmp, 1)) (d : decode μ.2.1 (p2 + 1) = .ok (.ifCond .eq off, 3)) (ht : ((p2 + 1 : Nat) : Int) + off = (tgt : Int)) (e1 : mj_E .long μ j p0 p1 A) (e2 : mj_E .long μ (j + 2) p1 p2 B) : mj_Cd μ j p0 tgt (p2 + 1 + 3) (mx_cmp l_eq A B) := fun K Z C L st h hst =>
  (e1 K Z C L st h hst).bd fun a σ => (e2 K Z C σ.1 (.long a :: st) σ.2 (mj_cs1 (mj_wl a) hst)).bd fun b τ k => mj_lcmp C dl (mj_if_eq C d ht (mj_ift (by simp [l_eq, lg_cmp_eq, lg_cmp_lt, lg_cmp_le, lg_cmp_gt, lg_cmp_ge]) k))
theorem r_leq_f {A B : mj_X Int64} {off : Int} {tgt : Nat} (dl : decode μ.2.1 p2 = .ok (.lcmp, 1)) (d : decode μ.2.1 (p2 + 1) = .ok (.ifCond .ne off, 3)) (ht : ((p2 + 1 : Nat) : Int) + off = (tgt : Int)) (e1 : mj_E .long μ j p0 p1 A) (e2 : mj_E .long μ (j + 2) p1 p2 B) : mj_Cd μ j p0 (p2 + 1 + 3) tgt (mx_cmp l_eq A B) := fun K Z C L st h hst =>
  (e1 K Z C L st h hst).bd fun a σ => (e2 K Z C σ.1 (.long a :: st) σ.2 (mj_cs1 (mj_wl a) hst)).bd fun b τ k => mj_lcmp C dl (mj_if_ne C d ht (mj_iff (by simp [l_eq, lg_cmp_eq, lg_cmp_lt, lg_cmp_le, lg_cmp_gt, lg_cmp_ge, mj_llt, mj_lle]) k))
def c_ne (x y : Int32) : Bool := !decide (x = y)
def z_ne (x : Int32) : Bool := !decide (x = 0)
def l_ne (x y : Int64) : Bool := !decide (x = y)
theorem r_cne_t {A B : mj_X Int32} {off : Int} {tgt : Nat} (d : decode μ.2.1 p2 = .ok (.if_icmp .ne off, 3)) (ht : (p2 : Int) + off = (tgt : Int)) (e1 : mj_E .int μ j p0 p1 A) (e2 : mj_E .int μ (j + 1) p1 p2 B) : mj_Cd μ j p0 tgt (p2 + 3) (mx_cmp c_ne A B) := fun K Z C L st h hst =>
  (e1 K Z C L st h hst).bd fun a σ => (e2 K Z C σ.1 (.int a :: st) σ.2 (mj_cs1 (mj_wi a) hst)).bd fun b τ k => mj_icmp_ne C d ht (mj_ift (by simp [c_ne]) k)
theorem r_cne_f {A B : mj_X Int32} {off : Int} {tgt : Nat} (d : decode μ.2.1 p2 = .ok (.if_icmp .eq off, 3)) (ht : (p2 : Int) + off = (tgt : Int)) (e1 : mj_E .int μ j p0 p1 A) (e2 : mj_E .int μ (j + 1) p1 p2 B) : mj_Cd μ j p0 (p2 + 3) tgt (mx_cmp c_ne A B) := fun K Z C L st h hst =>
  (e1 K Z C L st h hst).bd fun a σ => (e2 K Z C σ.1 (.int a :: st) σ.2 (mj_cs1 (mj_wi a) hst)).bd fun b τ k => mj_icmp_eq C d ht (mj_iff (by simp [c_ne, mj_ilt, mj_ile]) k)
theorem r_zne_t {A : mj_X Int32} {off : Int} {tgt : Nat} (d : decode μ.2.1 p1 = .ok (.ifCond .ne off, 3)) (ht : (p1 : Int) + off = (tgt : Int)) (e1 : mj_E .int μ j p0 p1 A) : mj_Cd μ j p0 tgt (p1 + 3) (mx_is z_ne A) := fun K Z C L st h hst =>
  (e1 K Z C L st h hst).bd fun a σ k => mj_if_ne C d ht (mj_ift (by simp [z_ne]) k)
theorem r_zne_f {A : mj_X Int32} {off : Int} {tgt : Nat} (d : decode μ.2.1 p1 = .ok (.ifCond .eq off, 3)) (ht : (p1 : Int) + off = (tgt : Int)) (e1 : mj_E .int μ j p0 p1 A) : mj_Cd μ j p0 (p1 + 3) tgt (mx_is z_ne A) := fun K Z C L st h hst =>
  (e1 K Z C L st h hst).bd fun a σ k => mj_if_eq C d ht (mj_iff (by simp [z_ne, mj_ilt, mj_ile]) k)
theorem r_lne_t {A B : mj_X Int64} {off : Int} {tgt : Nat} (dl : decode μ.2.1 p2 = .ok (.lcmp, 1)) (d : decode μ.2.1 (p2 + 1) = .ok (.ifCond .ne off, 3)) (ht : ((p2 + 1 : Nat) : Int) + off = (tgt : Int)) (e1 : mj_E .long μ j p0 p1 A) (e2 : mj_E .long μ (j + 2) p1 p2 B) : mj_Cd μ j p0 tgt (p2 + 1 + 3) (mx_cmp l_ne A B) := fun K Z C L st h hst =>
  (e1 K Z C L st h hst).bd fun a σ => (e2 K Z C σ.1 (.long a :: st) σ.2 (mj_cs1 (mj_wl a) hst)).bd fun b τ k => mj_lcmp C dl (mj_if_ne C d ht (mj_ift (by simp [l_ne, lg_cmp_eq, lg_cmp_lt, lg_cmp_le, lg_cmp_gt, lg_cmp_ge]) k))
theorem r_lne_f {A B : mj_X Int64} {off : Int} {tgt : Nat} (dl : decode μ.2.1 p2 = .ok (.lcmp, 1)) (d : decode μ.2.1 (p2 + 1) = .ok (.ifCond .eq off, 3)) (ht : ((p2 + 1 : Nat) : Int) + off = (tgt : Int)) (e1 : mj_E .long μ j p0 p1 A) (e2 : mj_E .long μ (j + 2) p1 p2 B) : mj_Cd μ j p0 (p2 + 1 + 3) tgt (mx_cmp l_ne A B) := fun K Z C L st h hst =>
  (e1 K Z C L st h hst).bd fun a σ => (e2 K Z C σ.1 (.long a :: st) σ.2 (mj_cs1 (mj_wl a) hst)).bd fun b τ k => mj_lcmp C dl (mj_if_eq C d ht (mj_iff (by simp [l_ne, lg_cmp_eq, lg_cmp_lt, lg_cmp_le, lg_cmp_gt, lg_cmp_ge, mj_llt, mj_lle]) k))
def c_lt (x y : Int32) : Bool := decide (x < y)
def z_lt (x : Int32) : Bool := decide (x < 0)
def l_lt (x y : Int64) : Bool := decide (x < y)
theorem r_clt_t {A B : mj_X Int32} {off : Int} {tgt : Nat} (d : decode μ.2.1 p2 = .ok (.if_icmp .lt off, 3)) (ht : (p2 : Int) + off = (tgt : Int)) (e1 : mj_E .int μ j p0 p1 A) (e2 : mj_E .int μ (j + 1) p1 p2 B) : mj_Cd μ j p0 tgt (p2 + 3) (mx_cmp c_lt A B) := fun K Z C L st h hst =>
  (e1 K Z C L st h hst).bd fun a σ => (e2 K Z C σ.1 (.int a :: st) σ.2 (mj_cs1 (mj_wi a) hst)).bd fun b τ k => mj_icmp_lt C d ht (mj_ift (by simp [c_lt]) k)
theorem r_clt_f {A B : mj_X Int32} {off : Int} {tgt : Nat} (d : decode μ.2.1 p2 = .ok (.if_icmp .ge off, 3)) (ht : (p2 : Int) + off = (tgt : Int)) (e1 : mj_E .int μ j p0 p1 A) (e2 : mj_E .int μ (j + 1) p1 p2 B) : mj_Cd μ j p0 (p2 + 3) tgt (mx_cmp c_lt A B) := fun K Z C L st h hst =>
  (e1 K Z C L st h hst).bd fun a σ => (e2 K Z C σ.1 (.int a :: st) σ.2 (mj_cs1 (mj_wi a) hst)).bd fun b τ k => mj_icmp_ge C d ht (mj_iff (by simp [c_lt, mj_ilt, mj_ile]) k)
theorem r_zlt_t {A : mj_X Int32} {off : Int} {tgt : Nat} (d : decode μ.2.1 p1 = .ok (.ifCond .lt off, 3)) (ht : (p1 : Int) + off = (tgt : Int)) (e1 : mj_E .int μ j p0 p1 A) : mj_Cd μ j p0 tgt (p1 + 3) (mx_is z_lt A) := fun K Z C L st h hst =>
  (e1 K Z C L st h hst).bd fun a σ k => mj_if_lt C d ht (mj_ift (by simp [z_lt]) k)
theorem r_zlt_f {A : mj_X Int32} {off : Int} {tgt : Nat} (d : decode μ.2.1 p1 = .ok (.ifCond .ge off, 3)) (ht : (p1 : Int) + off = (tgt : Int)) (e1 : mj_E .int μ j p0 p1 A) : mj_Cd μ j p0 (p1 + 3) tgt (mx_is z_lt A) := fun K Z C L st h hst =>
  (e1 K Z C L st h hst).bd fun a σ k => mj_if_ge C d ht (mj_iff (by simp [z_lt, mj_ilt, mj_ile]) k)
theorem r_llt_t {A B : mj_X Int64} {off : Int} {tgt : Nat} (dl : decode μ.2.1 p2 = .ok (.lcmp, 1)) (d : decode μ.2.1 (p2 + 1) = .ok (.ifCond .lt off, 3)) (ht : ((p2 + 1 : Nat) : Int) + off = (tgt : Int)) (e1 : mj_E .long μ j p0 p1 A) (e2 : mj_E .long μ (j + 2) p1 p2 B) : mj_Cd μ j p0 tgt (p2 + 1 + 3) (mx_cmp l_lt A B) := fun K Z C L st h hst =>
  (e1 K Z C L st h hst).bd fun a σ => (e2 K Z C σ.1 (.long a :: st) σ.2 (mj_cs1 (mj_wl a) hst)).bd fun b τ k => mj_lcmp C dl (mj_if_lt C d ht (mj_ift (by simp [l_lt, lg_cmp_eq, lg_cmp_lt, lg_cmp_le, lg_cmp_gt, lg_cmp_ge]) k))
theorem r_llt_f {A B : mj_X Int64} {off : Int} {tgt : Nat} (dl : decode μ.2.1 p2 = .ok (.lcmp, 1)) (d : decode μ.2.1 (p2 + 1) = .ok (.ifCond .ge off, 3)) (ht : ((p2 + 1 : Nat) : Int) + off = (tgt : Int)) (e1 : mj_E .long μ j p0 p1 A) (e2 : mj_E .long μ (j + 2) p1 p2 B) : mj_Cd μ j p0 (p2 + 1 + 3) tgt (mx_cmp l_lt A B) := fun K Z C L st h hst =>
  (e1 K Z C L st h hst).bd fun a σ => (e2 K Z C σ.1 (.long a :: st) σ.2 (mj_cs1 (mj_wl a) hst)).bd fun b τ k => mj_lcmp C dl (mj_if_ge C d ht (mj_iff (by simp [l_lt, lg_cmp_eq, lg_cmp_lt, lg_cmp_le, lg_cmp_gt, lg_cmp_ge, mj_llt, mj_lle]) k))
def c_ge (x y : Int32) : Bool := decide (y ≤ x)
def z_ge (x : Int32) : Bool := decide (0 ≤ x)
def l_ge (x y : Int64) : Bool := decide (y ≤ x)
theorem r_cge_t {A B : mj_X Int32} {off : Int} {tgt : Nat} (d : decode μ.2.1 p2 = .ok (.if_icmp .ge off, 3)) (ht : (p2 : Int) + off = (tgt : Int)) (e1 : mj_E .int μ j p0 p1 A) (e2 : mj_E .int μ (j + 1) p1 p2 B) : mj_Cd μ j p0 tgt (p2 + 3) (mx_cmp c_ge A B) := fun K Z C L st h hst =>
  (e1 K Z C L st h hst).bd fun a σ => (e2 K Z C σ.1 (.int a :: st) σ.2 (mj_cs1 (mj_wi a) hst)).bd fun b τ k => mj_icmp_ge C d ht (mj_ift (by simp [c_ge]) k)
theorem r_cge_f {A B : mj_X Int32} {off : Int} {tgt : Nat} (d : decode μ.2.1 p2 = .ok (.if_icmp .lt off, 3)) (ht : (p2 : Int) + off = (tgt : Int)) (e1 : mj_E .int μ j p0 p1 A) (e2 : mj_E .int μ (j + 1) p1 p2 B) : mj_Cd μ j p0 (p2 + 3) tgt (mx_cmp c_ge A B) := fun K Z C L st h hst =>
  (e1 K Z C L st h hst).bd fun a σ => (e2 K Z C σ.1 (.int a :: st) σ.2 (mj_cs1 (mj_wi a) hst)).bd fun b τ k => mj_icmp_lt C d ht (mj_iff (by simp [c_ge, mj_ilt, mj_ile]) k)
theorem r_zge_t {A : mj_X Int32} {off : Int} {tgt : Nat} (d : decode μ.2.1 p1 = .ok (.ifCond .ge off, 3)) (ht : (p1 : Int) + off = (tgt : Int)) (e1 : mj_E .int μ j p0 p1 A) : mj_Cd μ j p0 tgt (p1 + 3) (mx_is z_ge A) := fun K Z C L st h hst =>
  (e1 K Z C L st h hst).bd fun a σ k => mj_if_ge C d ht (mj_ift (by simp [z_ge]) k)
theorem r_zge_f {A : mj_X Int32} {off : Int} {tgt : Nat} (d : decode μ.2.1 p1 = .ok (.ifCond .lt off, 3)) (ht : (p1 : Int) + off = (tgt : Int)) (e1 : mj_E .int μ j p0 p1 A) : mj_Cd μ j p0 (p1 + 3) tgt (mx_is z_ge A) := fun K Z C L st h hst =>
  (e1 K Z C L st h hst).bd fun a σ k => mj_if_lt C d ht (mj_iff (by simp [z_ge, mj_ilt, mj_ile]) k)
theorem r_lge_t {A B : mj_X Int64} {off : Int} {tgt : Nat} (dl : decode μ.2.1 p2 = .ok (.lcmp, 1)) (d : decode μ.2.1 (p2 + 1) = .ok (.ifCond .ge off, 3)) (ht : ((p2 + 1 : Nat) : Int) + off = (tgt : Int)) (e1 : mj_E .long μ j p0 p1 A) (e2 : mj_E .long μ (j + 2) p1 p2 B) : mj_Cd μ j p0 tgt (p2 + 1 + 3) (mx_cmp l_ge A B) := fun K Z C L st h hst =>
  (e1 K Z C L st h hst).bd fun a σ => (e2 K Z C σ.1 (.long a :: st) σ.2 (mj_cs1 (mj_wl a) hst)).bd fun b τ k => mj_lcmp C dl (mj_if_ge C d ht (mj_ift (by simp [l_ge, lg_cmp_eq, lg_cmp_lt, lg_cmp_le, lg_cmp_gt, lg_cmp_ge]) k))
theorem r_lge_f {A B : mj_X Int64} {off : Int} {tgt : Nat} (dl : decode μ.2.1 p2 = .ok (.lcmp, 1)) (d : decode μ.2.1 (p2 + 1) = .ok (.ifCond .lt off, 3)) (ht : ((p2 + 1 : Nat) : Int) + off = (tgt : Int)) (e1 : mj_E .long μ j p0 p1 A) (e2 : mj_E .long μ (j + 2) p1 p2 B) : mj_Cd μ j p0 (p2 + 1 + 3) tgt (mx_cmp l_ge A B) := fun K Z C L st h hst =>
  (e1 K Z C L st h hst).bd fun a σ => (e2 K Z C σ.1 (.long a :: st) σ.2 (mj_cs1 (mj_wl a) hst)).bd fun b τ k => mj_lcmp C dl (mj_if_lt C d ht (mj_iff (by simp [l_ge, lg_cmp_eq, lg_cmp_lt, lg_cmp_le, lg_cmp_gt, lg_cmp_ge, mj_llt, mj_lle]) k))
def c_gt (x y : Int32) : Bool := decide (y < x)
def z_gt (x : Int32) : Bool := decide (0 < x)
def l_gt (x y : Int64) : Bool := decide (y < x)
theorem r_cgt_t {A B : mj_X Int32} {off : Int} {tgt : Nat} (d : decode μ.2.1 p2 = .ok (.if_icmp .gt off, 3)) (ht : (p2 : Int) + off = (tgt : Int)) (e1 : mj_E .int μ j p0 p1 A) (e2 : mj_E .int μ (j + 1) p1 p2 B) : mj_Cd μ j p0 tgt (p2 + 3) (mx_cmp c_gt A B) := fun K Z C L st h hst =>
  (e1 K Z C L st h hst).bd fun a σ => (e2 K Z C σ.1 (.int a :: st) σ.2 (mj_cs1 (mj_wi a) hst)).bd fun b τ k => mj_icmp_gt C d ht (mj_ift (by simp [c_gt]) k)
theorem r_cgt_f {A B : mj_X Int32} {off : Int} {tgt : Nat} (d : decode μ.2.1 p2 = .ok (.if_icmp .le off, 3)) (ht : (p2 : Int) + off = (tgt : Int)) (e1 : mj_E .int μ j p0 p1 A) (e2 : mj_E .int μ (j + 1) p1 p2 B) : mj_Cd μ j p0 (p2 + 3) tgt (mx_cmp c_gt A B) := fun K Z C L st h hst =>
  (e1 K Z C L st h hst).bd fun a σ => (e2 K Z C σ.1 (.int a :: st) σ.2 (mj_cs1 (mj_wi a) hst)).bd fun b τ k => mj_icmp_le C d ht (mj_iff (by simp [c_gt, mj_ilt, mj_ile]) k)
theorem r_zgt_t {A : mj_X Int32} {off : Int} {tgt : Nat} (d : decode μ.2.1 p1 = .ok (.ifCond .gt off, 3)) (ht : (p1 : Int) + off = (tgt : Int)) (e1 : mj_E .int μ j p0 p1 A) : mj_Cd μ j p0 tgt (p1 + 3) (mx_is z_gt A) := fun K Z C L st h hst =>
  (e1 K Z C L st h hst).bd fun a σ k => mj_if_gt C d ht (mj_ift (by simp [z_gt]) k)
theorem r_zgt_f {A : mj_X Int32} {off : Int} {tgt : Nat} (d : decode μ.2.1 p1 = .ok (.ifCond .le off, 3)) (ht : (p1 : Int) + off = (tgt : Int)) (e1 : mj_E .int μ j p0 p1 A) : mj_Cd μ j p0 (p1 + 3) tgt (mx_is z_gt A) := fun K Z C L st h hst =>
  (e1 K Z C L st h hst).bd fun a σ k => mj_if_le C d ht (mj_iff (by simp [z_gt, mj_ilt, mj_ile]) k)
theorem r_lgt_t {A B : mj_X Int64} {off : Int} {tgt : Nat} (dl : decode μ.2.1 p2 = .ok (.lcmp, 1)) (d : decode μ.2.1 (p2 + 1) = .ok (.ifCond .gt off, 3)) (ht : ((p2 + 1 : Nat) : Int) + off = (tgt : Int)) (e1 : mj_E .long μ j p0 p1 A) (e2 : mj_E .long μ (j + 2) p1 p2 B) : mj_Cd μ j p0 tgt (p2 + 1 + 3) (mx_cmp l_gt A B) := fun K Z C L st h hst =>
  (e1 K Z C L st h hst).bd fun a σ => (e2 K Z C σ.1 (.long a :: st) σ.2 (mj_cs1 (mj_wl a) hst)).bd fun b τ k => mj_lcmp C dl (mj_if_gt C d ht (mj_ift (by simp [l_gt, lg_cmp_eq, lg_cmp_lt, lg_cmp_le, lg_cmp_gt, lg_cmp_ge]) k))
theorem r_lgt_f {A B : mj_X Int64} {off : Int} {tgt : Nat} (dl : decode μ.2.1 p2 = .ok (.lcmp, 1)) (d : decode μ.2.1 (p2 + 1) = .ok (.ifCond .le off, 3)) (ht : ((p2 + 1 : Nat) : Int) + off = (tgt : Int)) (e1 : mj_E .long μ j p0 p1 A) (e2 : mj_E .long μ (j + 2) p1 p2 B) : mj_Cd μ j p0 (p2 + 1 + 3) tgt (mx_cmp l_gt A B) := fun K Z C L st h hst =>
  (e1 K Z C L st h hst).bd fun a σ => (e2 K Z C σ.1 (.long a :: st) σ.2 (mj_cs1 (mj_wl a) hst)).bd fun b τ k => mj_lcmp C dl (mj_if_le C d ht (mj_iff (by simp [l_gt, lg_cmp_eq, lg_cmp_lt, lg_cmp_le, lg_cmp_gt, lg_cmp_ge, mj_llt, mj_lle]) k))
def c_le (x y : Int32) : Bool := decide (x ≤ y)
def z_le (x : Int32) : Bool := decide (x ≤ 0)
def l_le (x y : Int64) : Bool := decide (x ≤ y)
theorem r_cle_t {A B : mj_X Int32} {off : Int} {tgt : Nat} (d : decode μ.2.1 p2 = .ok (.if_icmp .le off, 3)) (ht : (p2 : Int) + off = (tgt : Int)) (e1 : mj_E .int μ j p0 p1 A) (e2 : mj_E .int μ (j + 1) p1 p2 B) : mj_Cd μ j p0 tgt (p2 + 3) (mx_cmp c_le A B) := fun K Z C L st h hst =>
  (e1 K Z C L st h hst).bd fun a σ => (e2 K Z C σ.1 (.int a :: st) σ.2 (mj_cs1 (mj_wi a) hst)).bd fun b τ k => mj_icmp_le C d ht (mj_ift (by simp [c_le]) k)
theorem r_cle_f {A B : mj_X Int32} {off : Int} {tgt : Nat} (d : decode μ.2.1 p2 = .ok (.if_icmp .gt off, 3)) (ht : (p2 : Int) + off = (tgt : Int)) (e1 : mj_E .int μ j p0 p1 A) (e2 : mj_E .int μ (j + 1) p1 p2 B) : mj_Cd μ j p0 (p2 + 3) tgt (mx_cmp c_le A B) := fun K Z C L st h hst =>
  (e1 K Z C L st h hst).bd fun a σ => (e2 K Z C σ.1 (.int a :: st) σ.2 (mj_cs1 (mj_wi a) hst)).bd fun b τ k => mj_icmp_gt C d ht (mj_iff (by simp [c_le, mj_ilt, mj_ile]) k)
theorem r_zle_t {A : mj_X Int32} {off : Int} {tgt : Nat} (d : decode μ.2.1 p1 = .ok (.ifCond .le off, 3)) (ht : (p1 : Int) + off = (tgt : Int)) (e1 : mj_E .int μ j p0 p1 A) : mj_Cd μ j p0 tgt (p1 + 3) (mx_is z_le A) := fun K Z C L st h hst =>
  (e1 K Z C L st h hst).bd fun a σ k => mj_if_le C d ht (mj_ift (by simp [z_le]) k)
theorem r_zle_f {A : mj_X Int32} {off : Int} {tgt : Nat} (d : decode μ.2.1 p1 = .ok (.ifCond .gt off, 3)) (ht : (p1 : Int) + off = (tgt : Int)) (e1 : mj_E .int μ j p0 p1 A) : mj_Cd μ j p0 (p1 + 3) tgt (mx_is z_le A) := fun K Z C L st h hst =>
  (e1 K Z C L st h hst).bd fun a σ k => mj_if_gt C d ht (mj_iff (by simp [z_le, mj_ilt, mj_ile]) k)
theorem r_lle_t {A B : mj_X Int64} {off : Int} {tgt : Nat} (dl : decode μ.2.1 p2 = .ok (.lcmp, 1)) (d : decode μ.2.1 (p2 + 1) = .ok (.ifCond .le off, 3)) (ht : ((p2 + 1 : Nat) : Int) + off = (tgt : Int)) (e1 : mj_E .long μ j p0 p1 A) (e2 : mj_E .long μ (j + 2) p1 p2 B) : mj_Cd μ j p0 tgt (p2 + 1 + 3) (mx_cmp l_le A B) := fun K Z C L st h hst =>
  (e1 K Z C L st h hst).bd fun a σ => (e2 K Z C σ.1 (.long a :: st) σ.2 (mj_cs1 (mj_wl a) hst)).bd fun b τ k => mj_lcmp C dl (mj_if_le C d ht (mj_ift (by simp [l_le, lg_cmp_eq, lg_cmp_lt, lg_cmp_le, lg_cmp_gt, lg_cmp_ge]) k))
theorem r_lle_f {A B : mj_X Int64} {off : Int} {tgt : Nat} (dl : decode μ.2.1 p2 = .ok (.lcmp, 1)) (d : decode μ.2.1 (p2 + 1) = .ok (.ifCond .gt off, 3)) (ht : ((p2 + 1 : Nat) : Int) + off = (tgt : Int)) (e1 : mj_E .long μ j p0 p1 A) (e2 : mj_E .long μ (j + 2) p1 p2 B) : mj_Cd μ j p0 (p2 + 1 + 3) tgt (mx_cmp l_le A B) := fun K Z C L st h hst =>
  (e1 K Z C L st h hst).bd fun a σ => (e2 K Z C σ.1 (.long a :: st) σ.2 (mj_cs1 (mj_wl a) hst)).bd fun b τ k => mj_lcmp C dl (mj_if_gt C d ht (mj_iff (by simp [l_le, lg_cmp_eq, lg_cmp_lt, lg_cmp_le, lg_cmp_gt, lg_cmp_ge, mj_llt, mj_lle]) k))
theorem r_null {A : mj_X (Option Nat)} {off : Int} {tgt : Nat} (d : decode μ.2.1 p1 = .ok (.ifnonnull off, 3)) (ht : (p1 : Int) + off = (tgt : Int)) (e1 : mj_E va_rf μ j p0 p1 A) : mj_Cd μ j p0 (p1 + 3) tgt (mx_is mj_isn A) := fun K Z C L st h hst =>
  (e1 K Z C L st h hst).bd fun a σ k => mj_ifnonnull C d ht (mj_ift (by cases a <;> simp [mj_isn]) k)
theorem r_differ {A B : mj_X (Option Nat)} {off : Int} {tgt : Nat} (d : decode μ.2.1 p2 = .ok (.if_acmp .eq off, 3)) (ht : (p2 : Int) + off = (tgt : Int)) (e1 : mj_E va_rf μ j p0 p1 A) (e2 : mj_E va_rf μ (j + 1) p1 p2 B) : mj_Cd μ j p0 (p2 + 3) tgt (mx_not (mx_same A B)) := fun K Z C L st h hst => by
  have hs : mj_T μ K Z (mx_same A B (L, h)) (fun b σ => mj_G K Z (if b = true then tgt else p2 + 3) σ.1 st σ.2) (mj_G K Z p0 L st h) :=
    (e1 K Z C L st h hst).bd fun a σ => (e2 K Z C σ.1 (va_rf a :: st) σ.2 (mj_cs1 (mj_wr a) hst)).bd fun b τ => by
      split
      · split
        · rename_i x y hxy
          exact fun k => mj_acmp_eq C hxy.1 hxy.2 d ht (mj_ift (by simp) k)
        · trivial
      · trivial
  exact hs.bd fun b σ k => by
    cases b <;> exact k
theorem r_and {A B : mj_X Bool} (c1 : mj_Cd μ j p0 p1 p3 A) (c2 : mj_Cd μ j p1 p2 p3 B) : mj_Cd μ j p0 p2 p3 (mx_and A B) := fun K Z C L st h hst =>
  (c1 K Z C L st h hst).bd fun b σ => by
    cases b with
    | true => exact c2 K Z C σ.1 st σ.2 hst
    | false => exact fun k => k
theorem r_or {A B : mj_X Bool} (c1 : mj_Cd μ j p0 p2 p1 A) (c2 : mj_Cd μ j p1 p2 p3 B) : mj_Cd μ j p0 p2 p3 (mx_or A B) := fun K Z C L st h hst =>
  (c1 K Z C L st h hst).bd fun b σ => by
    cases b with
    | true => exact fun k => k
    | false => exact c2 K Z C σ.1 st σ.2 hst
theorem r_not {A : mj_X Bool} (c1 : mj_Cd μ j p0 p2 p1 A) : mj_Cd μ j p0 p1 p2 (mx_not A) := fun K Z C L st h hst =>
  (c1 K Z C L st h hst).bd fun b σ => by
    cases b <;> exact fun k => k
/-- a choice between two conditions -/
theorem r_ccond {B A1 A2 : mj_X Bool} (c : mj_Cd μ j p0 p1 p2 B) (e1 : mj_Cd μ j p1 p3 p4 A1) (e2 : mj_Cd μ j p2 p3 p4 A2) : mj_Cd μ j p0 p3 p4 (mx_cond B A1 A2) := fun K Z C L st h hst =>
  (c K Z C L st h hst).bd fun b σ => by
    cases b with
    | true => exact e1 K Z C σ.1 st σ.2 hst
    | false => exact e2 K Z C σ.1 st σ.2 hst
/-! arguments and calls -/
theorem r_nil : mj_Ar μ j p0 p0 mx_nil := fun K Z C L st h hst k => k
theorem r_cons {α : Type} {τ : α → Value} {u : Nat} {A : mj_X α} {Es : mj_X (List Value)} (hw : ∀ a, (τ a).category = u) (e1 : mj_E τ μ j p0 p1 A) (e2 : mj_Ar μ (j + u) p1 p2 Es) : mj_Ar μ j p0 p2 (mx_cons τ A Es) := fun K Z C L st h hst =>
  (e1 K Z C L st h hst).bd fun a σ => (e2 K Z C σ.1 (τ a :: st) σ.2 (mj_cs1 (hw a) hst)).bd fun vs σ' k => by
    rw [List.reverse_cons, List.append_assoc] at k
    exact k
theorem mj_lift_T {K : mj_M} {Z : mj_Z} {L : mj_L} {st : List Value} {h : mj_H} {res : mj_Res} {pc : Nat} {goal : Prop} (hrg : μ.2.2.2.2.2.2 pc = true) (k : mj_K2 K Z pc L st h res → goal) : mj_T μ K Z (mj_lift L h res) (fun r σ => mj_G K Z (pc + 3) σ.1 (r.toList ++ st) σ.2) goal := by
  cases res with
  | ok r h' => exact k
  | error e h' => cases e with
    | none => trivial
    | some ci => exact fun q => k (q pc hrg)
theorem r_callV {y : MethodName} {ccy : ByteArray} {nLy fry idx n ci N : Nat} {rety : Option FieldType} {Cn : String} {T : u_T} {F : List Value → mj_H → mj_Res} {O : mj_X (Option Nat)} {Es : mj_X (List Value)} (hS : mj_Snd y (ws_ y ccy nLy rety) fry F) (hc : mj_cl[ci]? = some (Cn, T, N)) (hci : ci < 50) (hG : GoodIn lw_all (wsV μ.1 idx Cn y (ws_ y ccy nLy rety)))
    (hd : y.cls = Cn ∧ y.cls ≠ "java/lang/invoke/MethodHandle" ∧ y.cls ≠ "java/lang/invoke/VarHandle" ∧ (parseMethodDescriptor y.desc).map (fun d => d.parameters.length) = some n) (hnL : nLy ≤ 80) (hlen : ∀ σ, mj_ln n (Es σ))
    (hfr : fry + 1 ≤ μ.2.2.2.1) (hj : j ≤ 8) (hrg : μ.2.2.2.2.2.2 p2 = true) (d : decode μ.2.1 p2 = .ok (.invokevirtual idx, 3)) (e1 : mj_E va_rf μ j p0 p1 O) (e2 : mj_Ar μ (j + 1) p1 p2 Es) : mj_Ec μ j p0 (p2 + 3) (mx_cv ci F O Es) := fun K Z C L st h hst =>
  (e1 K Z C L st h hst).bd fun r σ => by
    have h2 := e2 K Z C σ.1 (va_rf r :: st) σ.2 (mj_cs1 (mj_wr r) hst)
    have h3 := hlen (σ.1, σ.2)
    revert h2 h3
    show _ → _ → mj_T μ K Z (mj_bd (Es (σ.1, σ.2)) _) _ _
    cases Es (σ.1, σ.2) with
    | ok vs τ =>
      intro h2 h3
      refine mj_ob_T fun a hr ha => ?_
      subst hr
      exact mj_lift_T hrg fun k => h2 (mj_callV C hS hc hci hG hd hfr hnL (Nat.le_trans hst hj) d ha h3 k)
    | error e τ => cases e with
      | none => exact fun _ _ => trivial
      | some c => exact fun h2 _ => h2
theorem r_callVX {y : MethodName} {ccy : ByteArray} {nLy fry idx n ci N : Nat} {rety : Option FieldType} {hhy : List (Nat × Nat × Nat × Nat)} {Cn : String} {T : u_T} {F : List Value → mj_H → mj_Res} {O : mj_X (Option Nat)} {Es : mj_X (List Value)} (hS : mj_Snd y (wsW_ y ccy nLy rety hhy) fry F) (hc : mj_cl[ci]? = some (Cn, T, N)) (hci : ci < 50) (hG : GoodIn lw_all (wsV μ.1 idx Cn y (wsW_ y ccy nLy rety hhy)))
    (hd : y.cls = Cn ∧ y.cls ≠ "java/lang/invoke/MethodHandle" ∧ y.cls ≠ "java/lang/invoke/VarHandle" ∧ (parseMethodDescriptor y.desc).map (fun d => d.parameters.length) = some n) (hnL : nLy ≤ 80) (hlen : ∀ σ, mj_ln n (Es σ))
    (hfr : fry + 1 ≤ μ.2.2.2.1) (hj : j ≤ 8) (hrg : μ.2.2.2.2.2.2 p2 = true) (d : decode μ.2.1 p2 = .ok (.invokevirtual idx, 3)) (e1 : mj_E va_rf μ j p0 p1 O) (e2 : mj_Ar μ (j + 1) p1 p2 Es) : mj_Ec μ j p0 (p2 + 3) (mx_cv ci F O Es) := fun K Z C L st h hst =>
  (e1 K Z C L st h hst).bd fun r σ => by
    have h2 := e2 K Z C σ.1 (va_rf r :: st) σ.2 (mj_cs1 (mj_wr r) hst)
    have h3 := hlen (σ.1, σ.2)
    revert h2 h3
    show _ → _ → mj_T μ K Z (mj_bd (Es (σ.1, σ.2)) _) _ _
    cases Es (σ.1, σ.2) with
    | ok vs τ =>
      intro h2 h3
      refine mj_ob_T fun a hr ha => ?_
      subst hr
      exact mj_lift_T hrg fun k => h2 (mj_callVX C hS hc hci hG hd hfr hnL (Nat.le_trans hst hj) d ha h3 k)
    | error e τ => cases e with
      | none => exact fun _ _ => trivial
      | some c => exact fun h2 _ => h2
theorem r_callS {y : MethodName} {ccy : ByteArray} {nLy fry idx n : Nat} {rety : Option FieldType} {F : List Value → mj_H → mj_Res} {Es : mj_X (List Value)} (hS : mj_Snd y (ws_ y ccy nLy rety) fry F) (hG : GoodIn lw_all (va_wsS μ.1 idx y (ws_ y ccy nLy rety)))
    (hd : y.cls ≠ "java/lang/invoke/MethodHandle" ∧ y.cls ≠ "java/lang/invoke/VarHandle" ∧ (parseMethodDescriptor y.desc).map (fun d => d.parameters.length) = some n) (hnL : nLy ≤ 80) (hlen : ∀ σ, mj_ln n (Es σ))
    (hfr : fry + 1 ≤ μ.2.2.2.1) (hj : j ≤ 8) (hrg : μ.2.2.2.2.2.2 p1 = true) (d : decode μ.2.1 p1 = .ok (.invokestatic idx, 3)) (e2 : mj_Ar μ j p0 p1 Es) : mj_Ec μ j p0 (p1 + 3) (mx_cs F Es) := fun K Z C L st h hst => by
  have h2 := e2 K Z C L st h hst
  have h3 := hlen (L, h)
  revert h2 h3
  show _ → _ → mj_T μ K Z (mj_bd (Es (L, h)) _) _ _
  cases Es (L, h) with
  | ok vs τ =>
    intro h2 h3
    exact mj_lift_T hrg fun k => h2 (mj_callS C hS hG hd hfr hnL (Nat.le_trans hst hj) d h3 k)
  | error e τ => cases e with
    | none => exact fun _ _ => trivial
    | some c => exact fun h2 _ => h2
theorem r_callSX {y : MethodName} {ccy : ByteArray} {nLy fry idx n : Nat} {rety : Option FieldType} {hhy : List (Nat × Nat × Nat × Nat)} {F : List Value → mj_H → mj_Res} {Es : mj_X (List Value)} (hS : mj_Snd y (wsW_ y ccy nLy rety hhy) fry F) (hG : GoodIn lw_all (va_wsS μ.1 idx y (wsW_ y ccy nLy rety hhy)))
    (hd : y.cls ≠ "java/lang/invoke/MethodHandle" ∧ y.cls ≠ "java/lang/invoke/VarHandle" ∧ (parseMethodDescriptor y.desc).map (fun d => d.parameters.length) = some n) (hnL : nLy ≤ 80) (hlen : ∀ σ, mj_ln n (Es σ))
    (hfr : fry + 1 ≤ μ.2.2.2.1) (hj : j ≤ 8) (hrg : μ.2.2.2.2.2.2 p1 = true) (d : decode μ.2.1 p1 = .ok (.invokestatic idx, 3)) (e2 : mj_Ar μ j p0 p1 Es) : mj_Ec μ j p0 (p1 + 3) (mx_cs F Es) := fun K Z C L st h hst => by
  have h2 := e2 K Z C L st h hst
  have h3 := hlen (L, h)
  revert h2 h3
  show _ → _ → mj_T μ K Z (mj_bd (Es (L, h)) _) _ _
  cases Es (L, h) with
  | ok vs τ =>
    intro h2 h3
    exact mj_lift_T hrg fun k => h2 (mj_callSX C hS hG hd hfr hnL (Nat.le_trans hst hj) d h3 k)
  | error e τ => cases e with
    | none => exact fun _ _ => trivial
    | some c => exact fun h2 _ => h2
theorem r_len0 : ∀ σ : mj_S, mj_ln 0 (mx_nil σ) := fun σ => rfl
theorem r_lenS {α : Type} {τ : α → Value} {A : mj_X α} {Es : mj_X (List Value)} {n : Nat} (hl : ∀ σ, mj_ln n (Es σ)) : ∀ σ, mj_ln (n + 1) (mx_cons τ A Es σ) := fun σ => by
  unfold mx_cons
  cases A σ with
  | ok a σ1 =>
    show mj_ln (n + 1) (mj_bd (Es σ1) _)
    have h1 := hl σ1
    revert h1
    cases Es σ1 with
    | ok vs σ2 => exact fun h1 => congrArg (· + 1) h1
    | error e σ2 => exact fun _ => trivial
  | error e σ1 => trivial
theorem r_asi {A : mj_X (Option Value)} (e : mj_Ec μ j p0 p1 A) : mj_E .int μ j p0 p1 (mx_asi A) := fun K Z C L st h hst =>
  (e K Z C L st h hst).bd fun v σ => by
    split
    · exact fun k => k
    · trivial
theorem r_asl {A : mj_X (Option Value)} (e : mj_Ec μ j p0 p1 A) : mj_E .long μ j p0 p1 (mx_asl A) := fun K Z C L st h hst =>
  (e K Z C L st h hst).bd fun v σ => by
    split
    · exact fun k => k
    · trivial
theorem r_asr {A : mj_X (Option Value)} (e : mj_Ec μ j p0 p1 A) : mj_E va_rf μ j p0 p1 (mx_asr A) := fun K Z C L st h hst =>
  (e K Z C L st h hst).bd fun v σ => by
    split
    · exact fun k => k
    · trivial
theorem r_newa {kind len : Nat} {n : Int32} {atype : ArrayType} {N : mj_X Int32} (hN0 : ∀ σ, N σ = .ok n σ) (q : Jvm.Cond.arrayClass (newarray.typeOf atype) ∈ lw_all) (hk : kind < 4) (hty : newarray.typeOf atype = mj_et kind) (hn : ¬ n < 0) (hN : n.toNatClampNeg = len) (hb : len * 8 ≤ 536870912) (d : decode μ.2.1 p1 = .ok (.newarray atype, 2)) (e : mj_E .int μ j p0 p1 N) : mj_E va_rf μ j p0 (p1 + 2) (mx_newa kind len) := fun K Z C L st h hst => by
  have h1 := e K Z C L st h hst
  rw [hN0] at h1
  exact fun k => h1 (mj_newa C q hk hty hn hN hb d k)
theorem r_newq {len index : Nat} {n : Int32} {N : mj_X Int32} (hN0 : ∀ σ, N σ = .ok n σ) (q : Jvm.Cond.classLink μ.1 index RX3 ∈ lw_all) (hn : ¬ n < 0) (hN : n.toNatClampNeg = len) (hb : len * 8 ≤ 536870912) (d : decode μ.2.1 p1 = .ok (.anewarray index, 3)) (e : mj_E .int μ j p0 p1 N) : mj_E va_rf μ j p0 (p1 + 3) (mx_newa 4 len) := fun K Z C L st h hst => by
  have h1 := e K Z C L st h hst
  rw [hN0] at h1
  exact fun k => h1 (mj_newq C q hn hN hb d k)
theorem r_new {ci N index : Nat} {Cn : String} {T : u_T} {y : MethodName} {ccy : ByteArray} {nLy fry idx : Nat} {F : List Value → mj_H → mj_Res} (hc : mj_cl[ci]? = some (Cn, T, N)) (hN : mj_N ci = N) (hin : ∀ w ∈ u_ws Cn T N, w ∈ lw_all) (hty : ∀ k, k < N → parseFieldDescriptor (T k).2.2.1 = some (mj_ty ci k)) (q1 : Jvm.Cond.classLink μ.1 index Cn ∈ lw_all) (q2 : Jvm.Cond.instantiable Cn N ∈ lw_all) (q3 : Jvm.Cond.initialized Cn ∈ lw_all)
    (hS : mj_Snd y (ws_ y ccy nLy none) fry F) (hG : GoodIn lw_all (ws_ y ccy nLy none)) (q4 : Jvm.Cond.initialized y.cls ∈ lw_all) (q5 : Jvm.Cond.methodLink μ.1 idx y ∈ lw_all) (q6 : Jvm.Cond.instanceMethod y ∈ lw_all) (hy1 : y.name = "<init>") (hd : y.cls ≠ "java/lang/invoke/MethodHandle" ∧ y.cls ≠ "java/lang/invoke/VarHandle" ∧ (parseMethodDescriptor y.desc).map (fun d => d.parameters.length) = some 0)
    (hnL : nLy ≤ 80) (hfr : fry + 1 ≤ μ.2.2.2.1) (hj : j ≤ 7) (hrg : μ.2.2.2.2.2.2 (p0 + 4) = true) (d0 : decode μ.2.1 p0 = .ok (.new index, 3)) (d1 : decode μ.2.1 (p0 + 3) = .ok (.dup, 1)) (d2 : decode μ.2.1 (p0 + 4) = .ok (.invokespecial idx, 3)) : mj_E va_rf μ j p0 (p0 + 7) (mx_new ci N F) := fun K Z C L st h hst => by
  refine mj_T.bd (P := fun v σ => mj_G K Z (p0 + 7) σ.1 (v.toList ++ .ref h.2.1 :: st) σ.2) (mj_lift_T (pc := p0 + 4) (st := .ref h.2.1 :: st) hrg fun k => ?_) fun v σ => ?_
  · exact mj_new C hc hN hin hty q1 q2 q3 d0 (mj_dup C d1 rfl (mj_callI C hS hG q4 q5 q6 hy1 hd hfr hnL (Nat.le_trans (mj_cs1 (w := 1) rfl hst) (by omega)) d2 (As := []) rfl k))
  · cases v with
    | none => exact fun k => k
    | some x => trivial
theorem r_newN {ci N index : Nat} {Cn host : String} {T : u_T} {y : MethodName} {ccy : ByteArray} {nLy fry idx : Nat} {F : List Value → mj_H → mj_Res} (hc : mj_cl[ci]? = some (Cn, T, N)) (hN : mj_N ci = N) (hin : ∀ w ∈ u_ws Cn T N, w ∈ lw_all) (hty : ∀ k, k < N → parseFieldDescriptor (T k).2.2.1 = some (mj_ty ci k)) (q1 : Jvm.Cond.classLink μ.1 index Cn ∈ lw_all) (q2 : Jvm.Cond.instantiable Cn N ∈ lw_all) (q3 : Jvm.Cond.initialized Cn ∈ lw_all)
    (hS : mj_Snd y (ws_ y ccy nLy none) fry F) (hG : GoodIn lw_all (ws_ y ccy nLy none)) (q4 : Jvm.Cond.initialized y.cls ∈ lw_all) (q5 : Jvm.Cond.methodLinkNest μ.1 idx y host ∈ mj_nest) (q6 : Jvm.Cond.instanceMethod y ∈ lw_all) (hy1 : y.name = "<init>") (hd : y.cls ≠ "java/lang/invoke/MethodHandle" ∧ y.cls ≠ "java/lang/invoke/VarHandle" ∧ (parseMethodDescriptor y.desc).map (fun d => d.parameters.length) = some 0)
    (hnL : nLy ≤ 80) (hfr : fry + 1 ≤ μ.2.2.2.1) (hj : j ≤ 7) (hrg : μ.2.2.2.2.2.2 (p0 + 4) = true) (d0 : decode μ.2.1 p0 = .ok (.new index, 3)) (d1 : decode μ.2.1 (p0 + 3) = .ok (.dup, 1)) (d2 : decode μ.2.1 (p0 + 4) = .ok (.invokespecial idx, 3)) : mj_E va_rf μ j p0 (p0 + 7) (mx_new ci N F) := fun K Z C L st h hst => by
  refine mj_T.bd (P := fun v σ => mj_G K Z (p0 + 7) σ.1 (v.toList ++ .ref h.2.1 :: st) σ.2) (mj_lift_T (pc := p0 + 4) (st := .ref h.2.1 :: st) hrg fun k => ?_) fun v σ => ?_
  · exact mj_new C hc hN hin hty q1 q2 q3 d0 (mj_dup C d1 rfl (mj_callIN C hS hG q4 q5 q6 hy1 hd hfr hnL (Nat.le_trans (mj_cs1 (w := 1) rfl hst) (by omega)) d2 (As := []) rfl k))
  · cases v with
    | none => exact fun k => k
    | some x => trivial
end MjRules
