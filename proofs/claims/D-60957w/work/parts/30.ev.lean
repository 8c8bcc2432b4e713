/-! pure: reading cells, evaluating bodies -/
def gI (h : mj_H) (a k : Nat) : Int32 := (h.1 a).2.2.1 k
def gJ (h : mj_H) (a k : Nat) : Int64 := (h.1 a).2.2.2.1 k
def gR (h : mj_H) (a k : Nat) : Option Nat := (h.1 a).2.2.2.2 k
def gK (h : mj_H) (a : Nat) : Nat := (h.1 a).1
def gN (h : mj_H) (a : Nat) : Nat := (h.1 a).2.1
theorem gI_wI {h : mj_H} {a k : Nat} {x : Int32} {b j : Nat} : gI (mj_wI h a k x) b j = if b = a ∧ j = k then x else gI h b j := by
  unfold gI mj_wI mj_up mj_sI mj_up
  by_cases e : b = a
  · subst e
    by_cases f : j = k <;> simp [f]
  · simp [e]
theorem gJ_wI {h : mj_H} {a k : Nat} {x : Int32} {b j : Nat} : gJ (mj_wI h a k x) b j = gJ h b j := by
  unfold gJ mj_wI mj_up mj_sI
  by_cases e : b = a <;> simp [e]
theorem gR_wI {h : mj_H} {a k : Nat} {x : Int32} {b j : Nat} : gR (mj_wI h a k x) b j = gR h b j := by
  unfold gR mj_wI mj_up mj_sI
  by_cases e : b = a <;> simp [e]
theorem gK_wI {h : mj_H} {a k : Nat} {x : Int32} {b : Nat} : gK (mj_wI h a k x) b = gK h b := by
  unfold gK mj_wI mj_up mj_sI
  by_cases e : b = a <;> simp [e]
theorem gN_wI {h : mj_H} {a k : Nat} {x : Int32} {b : Nat} : gN (mj_wI h a k x) b = gN h b := by
  unfold gN mj_wI mj_up mj_sI
  by_cases e : b = a <;> simp [e]
theorem gI_wJ {h : mj_H} {a k : Nat} {x : Int64} {b j : Nat} : gI (mj_wJ h a k x) b j = gI h b j := by
  unfold gI mj_wJ mj_up mj_sJ
  by_cases e : b = a <;> simp [e]
theorem gJ_wJ {h : mj_H} {a k : Nat} {x : Int64} {b j : Nat} : gJ (mj_wJ h a k x) b j = if b = a ∧ j = k then x else gJ h b j := by
  unfold gJ mj_wJ mj_up mj_sJ mj_up
  by_cases e : b = a
  · subst e
    by_cases f : j = k <;> simp [f]
  · simp [e]
theorem gR_wJ {h : mj_H} {a k : Nat} {x : Int64} {b j : Nat} : gR (mj_wJ h a k x) b j = gR h b j := by
  unfold gR mj_wJ mj_up mj_sJ
  by_cases e : b = a <;> simp [e]
theorem gK_wJ {h : mj_H} {a k : Nat} {x : Int64} {b : Nat} : gK (mj_wJ h a k x) b = gK h b := by
  unfold gK mj_wJ mj_up mj_sJ
  by_cases e : b = a <;> simp [e]
theorem gN_wJ {h : mj_H} {a k : Nat} {x : Int64} {b : Nat} : gN (mj_wJ h a k x) b = gN h b := by
  unfold gN mj_wJ mj_up mj_sJ
  by_cases e : b = a <;> simp [e]
theorem n_wI {h : mj_H} {a k : Nat} {x : Int32} : (mj_wI h a k x).2 = h.2 := rfl
theorem n_wJ {h : mj_H} {a k : Nat} {x : Int64} : (mj_wJ h a k x).2 = h.2 := rfl
def mj_gv (v : Option (Option Value)) (σ : mj_S) : mj_R Int32 := match v with
  | some (some (.int x)) => .ok x σ
  | _ => .error none σ
def mj_gvl (v : Option (Option Value)) (σ : mj_S) : mj_R Int64 := match v with
  | some (some (.long x)) => .ok x σ
  | _ => .error none σ
def mj_gvr (v : Option (Option Value)) (σ : mj_S) : mj_R (Option Nat) := match v with
  | some (some (.ref x)) => .ok (some x) σ
  | some (some .null) => .ok none σ
  | _ => .error none σ
theorem gv_int {x : Int32} {σ : mj_S} : mj_gv (some (some (.int x))) σ = .ok x σ := rfl
theorem gv_long {x : Int64} {σ : mj_S} : mj_gvl (some (some (.long x))) σ = .ok x σ := rfl
theorem gv_ref {x : Nat} {σ : mj_S} : mj_gvr (some (some (.ref x))) σ = .ok (some x) σ := rfl
theorem ev_k {α : Type} {x : α} {σ : mj_S} : mx_k x σ = .ok x σ := rfl
theorem ev_v {k : Nat} {L : mj_L} {h : mj_H} : mx_v k (L, h) = mj_gv L[k]? (L, h) := rfl
theorem ev_vl {k : Nat} {L : mj_L} {h : mj_H} : mx_vl k (L, h) = mj_gvl L[k]? (L, h) := rfl
theorem ev_vr {k : Nat} {L : mj_L} {h : mj_H} : mx_vr k (L, h) = mj_gvr L[k]? (L, h) := rfl
theorem bd_ok {α β : Type} {a : α} {σ : mj_S} {f : α → mj_S → mj_R β} : mj_bd (.ok a σ) f = f a σ := rfl
theorem bd_er {α β : Type} {e : Option Nat} {σ : mj_S} {f : α → mj_S → mj_R β} : mj_bd (.error e σ) f = .error e σ := rfl
theorem bd_if {α β : Type} {c : Prop} [Decidable c] {r s : mj_R α} {f : α → mj_S → mj_R β} : mj_bd (if c then r else s) f = if c then mj_bd r f else mj_bd s f := by split <;> rfl
theorem ev_ob {α : Type} {ci a : Nat} {L : mj_L} {h : mj_H} {f : Nat → mj_R α} : mj_ob ci (some a) (L, h) f = if gK h a = 5 + ci then f a else .error none (L, h) := rfl
theorem ev_ix {α : Type} {kind : Nat → Bool} {a : Nat} {i : Int32} {L : mj_L} {h : mj_H} {f : Nat → mj_R α} : mj_ix kind (some a) i (L, h) f = if kind (gK h a) = true ∧ 0 ≤ i.toInt ∧ i.toInt < (gN h a : Int) then f a else .error none (L, h) := rfl
theorem ev_get {ci k : Nat} {E : mj_X (Option Nat)} {σ : mj_S} : mx_get ci k E σ = mj_bd (E σ) fun r σ => mj_ob ci r σ fun a => .ok (gI σ.2 a k) σ := rfl
theorem ev_getl {ci k : Nat} {E : mj_X (Option Nat)} {σ : mj_S} : mx_getl ci k E σ = mj_bd (E σ) fun r σ => mj_ob ci r σ fun a => .ok (gJ σ.2 a k) σ := rfl
theorem ev_getr {ci k : Nat} {E : mj_X (Option Nat)} {σ : mj_S} : mx_getr ci k E σ = mj_bd (E σ) fun r σ => mj_ob ci r σ fun a => .ok (gR σ.2 a k) σ := rfl
theorem ev_ab {A : mj_X (Option Nat)} {I : mj_X Int32} {σ : mj_S} : mx_ab A I σ = mj_bd (A σ) fun r σ => mj_bd (I σ) fun i σ => mj_ix mj_kb r i σ fun a => .ok (gI σ.2 a i.toNatClampNeg) σ := rfl
theorem ev_ai {A : mj_X (Option Nat)} {I : mj_X Int32} {σ : mj_S} : mx_ai A I σ = mj_bd (A σ) fun r σ => mj_bd (I σ) fun i σ => mj_ix mj_k1 r i σ fun a => .ok (gI σ.2 a i.toNatClampNeg) σ := rfl
theorem ev_al {A : mj_X (Option Nat)} {I : mj_X Int32} {σ : mj_S} : mx_al A I σ = mj_bd (A σ) fun r σ => mj_bd (I σ) fun i σ => mj_ix mj_k2 r i σ fun a => .ok (gJ σ.2 a i.toNatClampNeg) σ := rfl
theorem ev_ar {A : mj_X (Option Nat)} {I : mj_X Int32} {σ : mj_S} : mx_ar A I σ = mj_bd (A σ) fun r σ => mj_bd (I σ) fun i σ => mj_ix mj_k4 r i σ fun a => .ok (gR σ.2 a i.toNatClampNeg) σ := rfl
theorem ev_bin {α β γ : Type} {f : α → β → γ} {A : mj_X α} {B : mj_X β} {σ : mj_S} : mx_bin f A B σ = mj_bd (A σ) fun a σ => mj_bd (B σ) fun b σ => .ok (f a b) σ := rfl
theorem ev_cmp {α : Type} {f : α → α → Bool} {A B : mj_X α} {σ : mj_S} : mx_cmp f A B σ = mj_bd (A σ) fun a σ => mj_bd (B σ) fun b σ => .ok (f a b) σ := rfl
theorem ev_un {α β : Type} {f : α → β} {A : mj_X α} {σ : mj_S} : mx_un f A σ = mj_bd (A σ) fun a σ => .ok (f a) σ := rfl
theorem ev_is {α : Type} {f : α → Bool} {A : mj_X α} {σ : mj_S} : mx_is f A σ = mj_bd (A σ) fun a σ => .ok (f a) σ := rfl
theorem ev_cond {α : Type} {C : mj_X Bool} {A B : mj_X α} {σ : mj_S} : mx_cond C A B σ = mj_bd (C σ) fun b σ => if b = true then A σ else B σ := rfl
theorem ev_ofc {C : mj_X Bool} {σ : mj_S} : mx_ofc C σ = mj_bd (C σ) fun b σ => .ok (if b = true then 1 else 0) σ := rfl
theorem ev_nil {σ : mj_S} : mx_nil σ = .ok [] σ := rfl
theorem ev_cons {α : Type} {τ : α → Value} {E : mj_X α} {Es : mj_X (List Value)} {σ : mj_S} : mx_cons τ E Es σ = mj_bd (E σ) fun a σ => mj_bd (Es σ) fun vs σ => .ok (τ a :: vs) σ := rfl
theorem ev_cv {ci : Nat} {F : List Value → mj_H → mj_Res} {O : mj_X (Option Nat)} {Es : mj_X (List Value)} {σ : mj_S} : mx_cv ci F O Es σ = mj_bd (O σ) fun r σ => mj_bd (Es σ) fun vs σ => mj_ob ci r σ fun b => mj_lift σ.1 σ.2 (F (.ref b :: vs) σ.2) := rfl
theorem ev_cs {F : List Value → mj_H → mj_Res} {Es : mj_X (List Value)} {σ : mj_S} : mx_cs F Es σ = mj_bd (Es σ) fun vs σ => mj_lift σ.1 σ.2 (F vs σ.2) := rfl
theorem lift_ok {L : mj_L} {h : mj_H} {v : Option Value} {h' : mj_H} : mj_lift L h (.ok v h') = .ok v (L, mj_bump h h') := rfl
theorem lift_er {L : mj_L} {h : mj_H} {v : Option Nat} {h' : mj_H} : mj_lift L h (.error v h') = .error v (L, mj_bump h h') := rfl
theorem lift_if {L : mj_L} {h : mj_H} {c : Prop} [Decidable c] {r s : mj_Res} : mj_lift L h (if c then r else s) = if c then mj_lift L h r else mj_lift L h s := by split <;> rfl
theorem bump_self {h : mj_H} : mj_bump h h = h := mj_bump_of (Nat.le_refl _) (Nat.le_refl _)
theorem bump_wI {g h : mj_H} {a k : Nat} {x : Int32} : mj_bump g (mj_wI h a k x) = mj_wI (mj_bump g h) a k x := rfl
theorem bump_wJ {g h : mj_H} {a k : Nat} {x : Int64} : mj_bump g (mj_wJ h a k x) = mj_wJ (mj_bump g h) a k x := rfl
theorem wI_bump {g h : mj_H} {a k : Nat} {x : Int32} : mj_bump (mj_wI g a k x) h = mj_bump g h := rfl
theorem wJ_bump {g h : mj_H} {a k : Nat} {x : Int64} : mj_bump (mj_wJ g a k x) h = mj_bump g h := rfl
def mj_asv (v : Option Value) (σ : mj_S) : mj_R Int32 := match v with
  | some (.int x) => .ok x σ
  | _ => .error none σ
def mj_asvl (v : Option Value) (σ : mj_S) : mj_R Int64 := match v with
  | some (.long x) => .ok x σ
  | _ => .error none σ
def mj_asvr (v : Option Value) (σ : mj_S) : mj_R (Option Nat) := match v with
  | some (.ref x) => .ok (some x) σ
  | _ => .error none σ
theorem ev_asi {E : mj_X (Option Value)} {σ : mj_S} : mx_asi E σ = mj_bd (E σ) mj_asv := rfl
theorem ev_asl {E : mj_X (Option Value)} {σ : mj_S} : mx_asl E σ = mj_bd (E σ) mj_asvl := rfl
theorem ev_asr {E : mj_X (Option Value)} {σ : mj_S} : mx_asr E σ = mj_bd (E σ) mj_asvr := rfl
theorem asv_int {x : Int32} {σ : mj_S} : mj_asv (some (.int x)) σ = .ok x σ := rfl
theorem asv_long {x : Int64} {σ : mj_S} : mj_asvl (some (.long x)) σ = .ok x σ := rfl
theorem asv_ref {x : Nat} {σ : mj_S} : mj_asvr (some (.ref x)) σ = .ok (some x) σ := rfl
theorem ev_and {A B : mj_X Bool} {σ : mj_S} : mx_and A B σ = mj_bd (A σ) fun b σ => if b = true then B σ else .ok false σ := rfl
theorem ev_or {A B : mj_X Bool} {σ : mj_S} : mx_or A B σ = mj_bd (A σ) fun b σ => if b = true then .ok true σ else B σ := rfl
theorem ev_not {A : mj_X Bool} {σ : mj_S} : mx_not A σ = mj_bd (A σ) fun b σ => .ok (!b) σ := rfl
theorem ev_skip {σ : mj_S} : mx_skip σ = .ok none σ := rfl
def mj_th (f : mj_F) (T : mj_X mj_F) (σ : mj_S) : mj_R mj_F := match f with
  | none => T σ
  | some x => .ok (some x) σ
theorem ev_seq {S T : mj_X mj_F} {σ : mj_S} : mx_seq S T σ = mj_bd (S σ) fun f σ => mj_th f T σ := rfl
theorem th_n {T : mj_X mj_F} {σ : mj_S} : mj_th none T σ = T σ := rfl
theorem th_s {x : Option Value ⊕ Bool} {T : mj_X mj_F} {σ : mj_S} : mj_th (some x) T σ = .ok (some x) σ := rfl
def mj_vd (v : Option Value) (σ : mj_S) : mj_R mj_F := match v with
  | none => .ok none σ
  | some _ => .error none σ
def mj_pp (v : Option Value) (σ : mj_S) : mj_R mj_F := match v with
  | some w => if w.category = 1 then .ok none σ else .error none σ
  | none => .error none σ
theorem ev_void {E : mj_X (Option Value)} {σ : mj_S} : mx_void E σ = mj_bd (E σ) mj_vd := rfl
theorem ev_pop {E : mj_X (Option Value)} {σ : mj_S} : mx_pop E σ = mj_bd (E σ) mj_pp := rfl
theorem vd_n {σ : mj_S} : mj_vd none σ = .ok none σ := rfl
theorem pp_i {x : Int32} {σ : mj_S} : mj_pp (some (.int x)) σ = .ok none σ := rfl
theorem ev_set {k : Nat} {E : mj_X Int32} {σ : mj_S} : mx_set k E σ = mj_bd (E σ) fun x σ => .ok none (mj_s1 σ.1 k (.int x), σ.2) := rfl
theorem ev_setl {k : Nat} {E : mj_X Int64} {σ : mj_S} : mx_setl k E σ = mj_bd (E σ) fun x σ => .ok none (mj_s2 σ.1 k (.long x), σ.2) := rfl
def mj_sr (k : Nat) (r : Option Nat) (σ : mj_S) : mj_R mj_F := match r with
  | some x => .ok none (mj_s1 σ.1 k (.ref x), σ.2)
  | none => .error none σ
theorem ev_setr {k : Nat} {E : mj_X (Option Nat)} {σ : mj_S} : mx_setr k E σ = mj_bd (E σ) (mj_sr k) := rfl
theorem sr_s {k x : Nat} {σ : mj_S} : mj_sr k (some x) σ = .ok none (mj_s1 σ.1 k (.ref x), σ.2) := rfl
theorem ev_inc {k : Nat} {n : Int32} {L : mj_L} {h : mj_H} : mx_inc k n (L, h) = mj_bd (mj_gv L[k]? (L, h)) fun x σ => .ok none (mj_s1 σ.1 k (.int (x + n)), σ.2) := by
  unfold mx_inc mj_gv mj_bd
  dsimp only
  split <;> simp_all
theorem ev_put {ci k : Nat} {O : mj_X (Option Nat)} {E : mj_X Int32} {σ : mj_S} : mx_put ci k O E σ = mj_bd (O σ) fun r σ => mj_bd (E σ) fun x σ => mj_ob ci r σ fun a => .ok none (σ.1, mj_wI σ.2 a k x) := rfl
theorem ev_putz {ci k : Nat} {O : mj_X (Option Nat)} {E : mj_X Int32} {σ : mj_S} : mx_putz ci k O E σ = mj_bd (O σ) fun r σ => mj_bd (E σ) fun x σ => mj_ob ci r σ fun a => if x = 0 ∨ x = 1 then .ok none (σ.1, mj_wI σ.2 a k x) else .error none σ := rfl
theorem ev_putl {ci k : Nat} {O : mj_X (Option Nat)} {E : mj_X Int64} {σ : mj_S} : mx_putl ci k O E σ = mj_bd (O σ) fun r σ => mj_bd (E σ) fun x σ => mj_ob ci r σ fun a => .ok none (σ.1, mj_wJ σ.2 a k x) := rfl
theorem ev_upd {ci k : Nat} {f : Int32 → Int32 → Int32} {O : mj_X (Option Nat)} {E : mj_X Int32} {σ : mj_S} : mx_upd ci k f O E σ = mj_bd (O σ) fun r σ => mj_ob ci r σ fun a => mj_bd (E σ) fun x τ => mj_ob ci r τ fun _ => .ok none (τ.1, mj_wI τ.2 a k (f (gI σ.2 a k) x)) := rfl
theorem ev_ast {A : mj_X (Option Nat)} {I E : mj_X Int32} {σ : mj_S} : mx_ast A I E σ = mj_bd (A σ) fun r σ => mj_bd (I σ) fun i σ => mj_bd (E σ) fun x σ => mj_ix mj_k1 r i σ fun a => .ok none (σ.1, mj_wI σ.2 a i.toNatClampNeg x) := rfl
theorem ev_bst {A : mj_X (Option Nat)} {I E : mj_X Int32} {σ : mj_S} : mx_bst A I E σ = mj_bd (A σ) fun r σ => mj_bd (I σ) fun i σ => mj_bd (E σ) fun x σ => mj_ix mj_kb r i σ fun a => .ok none (σ.1, mj_wI σ.2 a i.toNatClampNeg (vp_nar (mj_et (gK σ.2 a)) x)) := rfl
theorem ev_lst {A : mj_X (Option Nat)} {I : mj_X Int32} {E : mj_X Int64} {σ : mj_S} : mx_lst A I E σ = mj_bd (A σ) fun r σ => mj_bd (I σ) fun i σ => mj_bd (E σ) fun x σ => mj_ix mj_k2 r i σ fun a => .ok none (σ.1, mj_wJ σ.2 a i.toNatClampNeg x) := rfl
theorem ev_aup {f : Int32 → Int32 → Int32} {A : mj_X (Option Nat)} {I E : mj_X Int32} {σ : mj_S} : mx_aup f A I E σ = mj_bd (A σ) fun r σ => mj_bd (I σ) fun i σ => mj_ix mj_k1 r i σ fun a => mj_bd (E σ) fun x τ => mj_ix mj_k1 r i τ fun _ => .ok none (τ.1, mj_wI τ.2 a i.toNatClampNeg (f (gI σ.2 a i.toNatClampNeg) x)) := rfl
theorem ev_if {C : mj_X Bool} {S T : mj_X mj_F} {σ : mj_S} : mx_if C S T σ = mj_bd (C σ) fun b σ => if b = true then S σ else T σ := rfl
theorem ev_brk {σ : mj_S} : mx_brk σ = .ok (some (.inr true)) σ := rfl
theorem ev_cnt {σ : mj_S} : mx_cnt σ = .ok (some (.inr false)) σ := rfl
theorem ev_ret {α : Type} {τ : α → Value} {E : mj_X α} {σ : mj_S} : mx_ret τ E σ = mj_bd (E σ) fun a σ => .ok (some (.inl (some (τ a)))) σ := rfl
theorem ev_rtv {σ : mj_S} : mx_rtv σ = .ok (some (.inl none)) σ := rfl
theorem ev_thr {ci : Nat} {L : mj_L} {h : mj_H} : mx_thr ci (L, h) = .error (some ci) (L, mj_nw h (5 + ci) 0 6) := rfl
def mj_fin (ret : Option FieldType) (r : mj_R mj_F) : mj_Res := match r with
  | .ok none σ => if ret = none then .ok none σ.2 else .error none σ.2
  | .ok (some (.inl v)) σ => if mj_rok ret v = true then .ok v σ.2 else .error none σ.2
  | .ok (some (.inr _)) σ => .error none σ.2
  | .error e σ => .error e σ.2
theorem fin_er {ret : Option FieldType} {e : Option Nat} {σ : mj_S} : mj_fin ret (.error e σ) = .error e σ.2 := rfl
theorem fin_n {σ : mj_S} : mj_fin none (.ok none σ) = .ok none σ.2 := rfl
theorem fin_v {σ : mj_S} : mj_fin none (.ok (some (.inl none)) σ) = .ok none σ.2 := rfl
theorem fin_i {x : Int32} {σ : mj_S} : mj_fin (some .int) (.ok (some (.inl (some (.int x)))) σ) = .ok (some (.int x)) σ.2 := rfl
theorem fin_l {x : Int64} {σ : mj_S} : mj_fin (some .long) (.ok (some (.inl (some (.long x)))) σ) = .ok (some (.long x)) σ.2 := rfl
theorem fin_z {x : Int32} {σ : mj_S} : mj_fin (some .boolean) (.ok (some (.inl (some (.int x)))) σ) = if x = 0 ∨ x = 1 then .ok (some (.int x)) σ.2 else .error none σ.2 := by
  unfold mj_fin mj_rok
  simp
theorem fin_if {ret : Option FieldType} {c : Prop} [Decidable c] {r s : mj_R mj_F} : mj_fin ret (if c then r else s) = if c then mj_fin ret r else mj_fin ret s := by split <;> rfl
theorem fin_a {t : FieldType} {x : Nat} {σ : mj_S} : mj_fin (some (.array t)) (.ok (some (.inl (some (.ref x)))) σ) = .ok (some (.ref x)) σ.2 := rfl
theorem fin_o {t : String} {x : Nat} {σ : mj_S} : mj_fin (some (.object t)) (.ok (some (.inl (some (.ref x)))) σ) = .ok (some (.ref x)) σ.2 := rfl
