/-! the combinators: what a piece of Java does; ok: its value; error (some ci): an exception of class ci; error none: out of the picture -/
abbrev mj_R (α : Type) : Type := EStateM.Result (Option Nat) mj_S α
abbrev mj_X (α : Type) : Type := mj_S → mj_R α
/-- what a statement ends with: none: it goes on; inl v: return; inr true: break; inr false: continue -/
abbrev mj_F : Type := Option (Option Value ⊕ Bool)
def mj_bd {α β : Type} (r : mj_R α) (f : α → mj_S → mj_R β) : mj_R β := match r with
  | .ok a σ => f a σ
  | .error e σ => .error e σ
def mx_k {α : Type} (x : α) : mj_X α := fun σ => .ok x σ
def mx_v (k : Nat) : mj_X Int32 := fun σ => match σ.1[k]? with
  | some (some (.int x)) => .ok x σ
  | _ => .error none σ
def mx_vl (k : Nat) : mj_X Int64 := fun σ => match σ.1[k]? with
  | some (some (.long x)) => .ok x σ
  | _ => .error none σ
def mx_vr (k : Nat) : mj_X (Option Nat) := fun σ => match σ.1[k]? with
  | some (some (.ref x)) => .ok (some x) σ
  | some (some .null) => .ok none σ
  | _ => .error none σ
/-- on with an object of the class ci -/
def mj_ob {α : Type} (ci : Nat) (r : Option Nat) (σ : mj_S) (f : Nat → mj_R α) : mj_R α := match r with
  | some a => if (σ.2.1 a).1 = 5 + ci then f a else .error none σ
  | none => .error none σ
/-- on with an array of a kind, and a place in it -/
def mj_ix {α : Type} (kind : Nat → Bool) (r : Option Nat) (i : Int32) (σ : mj_S) (f : Nat → mj_R α) : mj_R α := match r with
  | some a => if kind (σ.2.1 a).1 = true ∧ 0 ≤ i.toInt ∧ i.toInt < ((σ.2.1 a).2.1 : Int) then f a else .error none σ
  | none => .error none σ
def mj_kb (k : Nat) : Bool := k == 0 || k == 3
def mj_k1 (k : Nat) : Bool := k == 1
def mj_k2 (k : Nat) : Bool := k == 2
def mj_k4 (k : Nat) : Bool := k == 4
def mj_ks (k : Nat) : Bool := k == 98
def mx_get (ci k : Nat) (E : mj_X (Option Nat)) : mj_X Int32 := fun σ => mj_bd (E σ) fun r σ => mj_ob ci r σ fun a => .ok ((σ.2.1 a).2.2.1 k) σ
def mx_getl (ci k : Nat) (E : mj_X (Option Nat)) : mj_X Int64 := fun σ => mj_bd (E σ) fun r σ => mj_ob ci r σ fun a => .ok ((σ.2.1 a).2.2.2.1 k) σ
def mx_getr (ci k : Nat) (E : mj_X (Option Nat)) : mj_X (Option Nat) := fun σ => mj_bd (E σ) fun r σ => mj_ob ci r σ fun a => .ok ((σ.2.1 a).2.2.2.2 k) σ
def mx_ab (A : mj_X (Option Nat)) (I : mj_X Int32) : mj_X Int32 := fun σ => mj_bd (A σ) fun r σ => mj_bd (I σ) fun i σ => mj_ix mj_kb r i σ fun a => .ok ((σ.2.1 a).2.2.1 i.toNatClampNeg) σ
def mx_ai (A : mj_X (Option Nat)) (I : mj_X Int32) : mj_X Int32 := fun σ => mj_bd (A σ) fun r σ => mj_bd (I σ) fun i σ => mj_ix mj_k1 r i σ fun a => .ok ((σ.2.1 a).2.2.1 i.toNatClampNeg) σ
def mx_al (A : mj_X (Option Nat)) (I : mj_X Int32) : mj_X Int64 := fun σ => mj_bd (A σ) fun r σ => mj_bd (I σ) fun i σ => mj_ix mj_k2 r i σ fun a => .ok ((σ.2.1 a).2.2.2.1 i.toNatClampNeg) σ
def mx_ar (A : mj_X (Option Nat)) (I : mj_X Int32) : mj_X (Option Nat) := fun σ => mj_bd (A σ) fun r σ => mj_bd (I σ) fun i σ => mj_ix mj_k4 r i σ fun a => .ok ((σ.2.1 a).2.2.2.2 i.toNatClampNeg) σ
/-- the script's ints, its length -/
def mx_sc (A : mj_X (Option Nat)) (I : mj_X Int32) : mj_X Int32 := fun σ => mj_bd (A σ) fun r σ => mj_bd (I σ) fun i σ => mj_ix mj_ks r i σ fun a => if a = 26 then .ok ((σ.2.1 26).2.2.1 i.toNatClampNeg) σ else .error none σ
def mx_len (A : mj_X (Option Nat)) : mj_X Int32 := fun σ => mj_bd (A σ) fun r σ => if r = some 26 then .ok (Int32.ofNat (σ.2.1 26).2.1) σ else .error none σ
def mx_bin {α β γ : Type} (f : α → β → γ) (A : mj_X α) (B : mj_X β) : mj_X γ := fun σ => mj_bd (A σ) fun a σ => mj_bd (B σ) fun b σ => .ok (f a b) σ
/-- division: not by 0 -/
def mx_dv {α γ : Type} [DecidableEq α] (z : α) (f : α → α → γ) (A B : mj_X α) : mj_X γ := fun σ => mj_bd (A σ) fun a σ => mj_bd (B σ) fun b σ => if b = z then .error none σ else .ok (f a b) σ
def mx_un {α β : Type} (f : α → β) (A : mj_X α) : mj_X β := fun σ => mj_bd (A σ) fun a σ => .ok (f a) σ
def mx_cond {α : Type} (C : mj_X Bool) (A B : mj_X α) : mj_X α := fun σ => mj_bd (C σ) fun b σ => if b = true then A σ else B σ
def mx_ofc (C : mj_X Bool) : mj_X Int32 := fun σ => mj_bd (C σ) fun b σ => .ok (if b = true then 1 else 0) σ
/-- arguments -/
def mx_nil : mj_X (List Value) := fun σ => .ok [] σ
def mx_cons {α : Type} (τ : α → Value) (E : mj_X α) (Es : mj_X (List Value)) : mj_X (List Value) := fun σ => mj_bd (E σ) fun a σ => mj_bd (Es σ) fun vs σ => .ok (τ a :: vs) σ
def mj_lift (L : mj_L) (h : mj_H) (r : mj_Res) : mj_R (Option Value) := match r with
  | .ok v h' => .ok v (L, mj_bump h h')
  | .error e h' => .error e (L, mj_bump h h')
/-- a call through an object of the class ci; of a static method -/
def mx_cv (ci : Nat) (F : List Value → mj_H → mj_Res) (O : mj_X (Option Nat)) (Es : mj_X (List Value)) : mj_X (Option Value) := fun σ => mj_bd (O σ) fun r σ => mj_bd (Es σ) fun vs σ => mj_ob ci r σ fun b => mj_lift σ.1 σ.2 (F (.ref b :: vs) σ.2)
def mx_cs (F : List Value → mj_H → mj_Res) (Es : mj_X (List Value)) : mj_X (Option Value) := fun σ => mj_bd (Es σ) fun vs σ => mj_lift σ.1 σ.2 (F vs σ.2)
def mx_asi (E : mj_X (Option Value)) : mj_X Int32 := fun σ => mj_bd (E σ) fun v σ => match v with
  | some (.int x) => .ok x σ
  | _ => .error none σ
def mx_asl (E : mj_X (Option Value)) : mj_X Int64 := fun σ => mj_bd (E σ) fun v σ => match v with
  | some (.long x) => .ok x σ
  | _ => .error none σ
def mx_asr (E : mj_X (Option Value)) : mj_X (Option Nat) := fun σ => mj_bd (E σ) fun v σ => match v with
  | some (.ref x) => .ok (some x) σ
  | _ => .error none σ
/-- new arrays, objects -/
def mx_newa (kind len : Nat) : mj_X (Option Nat) := fun σ => .ok (some σ.2.2.1) (σ.1, mj_nw σ.2 kind len len)
def mx_new (ci N : Nat) (F : List Value → mj_H → mj_Res) : mj_X (Option Nat) := fun σ => mj_bd (mj_lift σ.1 (mj_nw σ.2 (5 + ci) 0 N) (F [.ref σ.2.2.1] (mj_nw σ.2 (5 + ci) 0 N))) fun v τ => match v with
  | none => .ok (some σ.2.2.1) τ
  | some _ => .error none τ
/-- conditions -/
def mx_cmp {α : Type} (f : α → α → Bool) (A B : mj_X α) : mj_X Bool := mx_bin f A B
def mx_is {α : Type} (f : α → Bool) (A : mj_X α) : mj_X Bool := mx_un f A
def mx_and (A B : mj_X Bool) : mj_X Bool := fun σ => mj_bd (A σ) fun b σ => if b = true then B σ else .ok false σ
def mx_or (A B : mj_X Bool) : mj_X Bool := fun σ => mj_bd (A σ) fun b σ => if b = true then .ok true σ else B σ
def mx_not (A : mj_X Bool) : mj_X Bool := fun σ => mj_bd (A σ) fun b σ => .ok (!b) σ
def mj_nz (x : Int32) : Bool := !(x == 0)
def mj_isn (r : Option Nat) : Bool := r.isNone
/-- two objects: the same one? -/
def mx_same (A B : mj_X (Option Nat)) : mj_X Bool := fun σ => mj_bd (A σ) fun a σ => mj_bd (B σ) fun b σ => match a, b with
  | some x, some y => if 27 ≤ x ∧ 27 ≤ y then .ok (x == y) σ else .error none σ
  | _, _ => .error none σ
/-- statements -/
def mx_skip : mj_X mj_F := fun σ => .ok none σ
def mx_seq (S T : mj_X mj_F) : mj_X mj_F := fun σ => mj_bd (S σ) fun f σ => match f with
  | none => T σ
  | some x => .ok (some x) σ
def mx_void (E : mj_X (Option Value)) : mj_X mj_F := fun σ => mj_bd (E σ) fun v σ => match v with
  | none => .ok none σ
  | some _ => .error none σ
def mx_pop (E : mj_X (Option Value)) : mj_X mj_F := fun σ => mj_bd (E σ) fun v σ => match v with
  | some w => if w.category = 1 then .ok none σ else .error none σ
  | none => .error none σ
def mx_set (k : Nat) (E : mj_X Int32) : mj_X mj_F := fun σ => mj_bd (E σ) fun x σ => .ok none (mj_s1 σ.1 k (.int x), σ.2)
def mx_setl (k : Nat) (E : mj_X Int64) : mj_X mj_F := fun σ => mj_bd (E σ) fun x σ => .ok none (mj_s2 σ.1 k (.long x), σ.2)
def mx_setr (k : Nat) (E : mj_X (Option Nat)) : mj_X mj_F := fun σ => mj_bd (E σ) fun r σ => match r with
  | some x => .ok none (mj_s1 σ.1 k (.ref x), σ.2)
  | none => .error none σ
def mx_inc (k : Nat) (n : Int32) : mj_X mj_F := fun σ => match σ.1[k]? with
  | some (some (.int x)) => .ok none (mj_s1 σ.1 k (.int (x + n)), σ.2)
  | _ => .error none σ
def mj_wI (h : mj_H) (a k : Nat) (x : Int32) : mj_H := (mj_up h.1 a (mj_sI (h.1 a) k x), h.2)
def mj_wJ (h : mj_H) (a k : Nat) (x : Int64) : mj_H := (mj_up h.1 a (mj_sJ (h.1 a) k x), h.2)
def mj_wR (h : mj_H) (a k : Nat) (x : Option Nat) : mj_H := (mj_up h.1 a (mj_sR (h.1 a) k x), h.2)
def mx_put (ci k : Nat) (O : mj_X (Option Nat)) (E : mj_X Int32) : mj_X mj_F := fun σ => mj_bd (O σ) fun r σ => mj_bd (E σ) fun x σ => mj_ob ci r σ fun a => .ok none (σ.1, mj_wI σ.2 a k x)
/-- of a boolean field -/
def mx_putz (ci k : Nat) (O : mj_X (Option Nat)) (E : mj_X Int32) : mj_X mj_F := fun σ => mj_bd (O σ) fun r σ => mj_bd (E σ) fun x σ => mj_ob ci r σ fun a => if x = 0 ∨ x = 1 then .ok none (σ.1, mj_wI σ.2 a k x) else .error none σ
def mx_putl (ci k : Nat) (O : mj_X (Option Nat)) (E : mj_X Int64) : mj_X mj_F := fun σ => mj_bd (O σ) fun r σ => mj_bd (E σ) fun x σ => mj_ob ci r σ fun a => .ok none (σ.1, mj_wJ σ.2 a k x)
def mx_putr (ci k : Nat) (O : mj_X (Option Nat)) (E : mj_X (Option Nat)) : mj_X mj_F := fun σ => mj_bd (O σ) fun r σ => mj_bd (E σ) fun x σ => mj_ob ci r σ fun a => match x with
  | some y => .ok none (σ.1, mj_wR σ.2 a k (some y))
  | none => .error none σ
/-- o.f op= E -/
def mx_upd (ci k : Nat) (f : Int32 → Int32 → Int32) (O : mj_X (Option Nat)) (E : mj_X Int32) : mj_X mj_F := fun σ => mj_bd (O σ) fun r σ => mj_ob ci r σ fun a => mj_bd (E σ) fun x τ => mj_ob ci r τ fun _ => .ok none (τ.1, mj_wI τ.2 a k (f ((σ.2.1 a).2.2.1 k) x))
def mx_ast (A : mj_X (Option Nat)) (I E : mj_X Int32) : mj_X mj_F := fun σ => mj_bd (A σ) fun r σ => mj_bd (I σ) fun i σ => mj_bd (E σ) fun x σ => mj_ix mj_k1 r i σ fun a => .ok none (σ.1, mj_wI σ.2 a i.toNatClampNeg x)
def mx_bst (A : mj_X (Option Nat)) (I E : mj_X Int32) : mj_X mj_F := fun σ => mj_bd (A σ) fun r σ => mj_bd (I σ) fun i σ => mj_bd (E σ) fun x σ => mj_ix mj_kb r i σ fun a => .ok none (σ.1, mj_wI σ.2 a i.toNatClampNeg (vp_nar (mj_et (σ.2.1 a).1) x))
def mx_lst (A : mj_X (Option Nat)) (I : mj_X Int32) (E : mj_X Int64) : mj_X mj_F := fun σ => mj_bd (A σ) fun r σ => mj_bd (I σ) fun i σ => mj_bd (E σ) fun x σ => mj_ix mj_k2 r i σ fun a => .ok none (σ.1, mj_wJ σ.2 a i.toNatClampNeg x)
def mx_rst (A : mj_X (Option Nat)) (I : mj_X Int32) (E : mj_X (Option Nat)) : mj_X mj_F := fun σ => mj_bd (A σ) fun r σ => mj_bd (I σ) fun i σ => mj_bd (E σ) fun x σ => mj_ix mj_k4 r i σ fun a => mj_ob 1 x σ fun y => .ok none (σ.1, mj_wR σ.2 a i.toNatClampNeg (some y))
/-- a[i] op= E, of ints -/
def mx_aup (f : Int32 → Int32 → Int32) (A : mj_X (Option Nat)) (I E : mj_X Int32) : mj_X mj_F := fun σ => mj_bd (A σ) fun r σ => mj_bd (I σ) fun i σ => mj_ix mj_k1 r i σ fun a => mj_bd (E σ) fun x τ => mj_ix mj_k1 r i τ fun _ => .ok none (τ.1, mj_wI τ.2 a i.toNatClampNeg (f ((σ.2.1 a).2.2.1 i.toNatClampNeg) x))
def mx_if (C : mj_X Bool) (S T : mj_X mj_F) : mj_X mj_F := fun σ => mj_bd (C σ) fun b σ => if b = true then S σ else T σ
def mx_brk : mj_X mj_F := fun σ => .ok (some (.inr true)) σ
def mx_cnt : mj_X mj_F := fun σ => .ok (some (.inr false)) σ
def mx_ret {α : Type} (τ : α → Value) (E : mj_X α) : mj_X mj_F := fun σ => mj_bd (E σ) fun a σ => .ok (some (.inl (some (τ a)))) σ
def mx_rtv : mj_X mj_F := fun σ => .ok (some (.inl none)) σ
/-- throw new X() -/
def mx_thr (ci : Nat) : mj_X mj_F := fun σ => .error (some ci) (σ.1, mj_nw σ.2 (5 + ci) 0 6)
/-- loops: by steps -/
def mj_wn (C : mj_X Bool) (S U : mj_X mj_F) : Nat → mj_X mj_F
  | 0 => fun σ => .error none σ
  | n + 1 => fun σ => mj_bd (C σ) fun b σ => if b = true then mj_bd (S σ) fun f σ => match f with
      | none => mx_seq U (mj_wn C S U n) σ
      | some (.inr false) => mx_seq U (mj_wn C S U n) σ
      | some (.inr true) => .ok none σ
      | some (.inl v) => .ok (some (.inl v)) σ
    else .ok none σ
def mj_dn (S : mj_X mj_F) (C : mj_X Bool) : Nat → mj_X mj_F
  | 0 => fun σ => .error none σ
  | n + 1 => fun σ => mj_bd (S σ) fun f σ => match f with
      | none => mj_bd (C σ) fun b σ => if b = true then mj_dn S C n σ else .ok none σ
      | some (.inr false) => mj_bd (C σ) fun b σ => if b = true then mj_dn S C n σ else .ok none σ
      | some (.inr true) => .ok none σ
      | some (.inl v) => .ok (some (.inl v)) σ
def mj_stk {α : Type} (r : mj_R α) : Prop := match r with
  | .error none _ => True
  | _ => False
noncomputable def mj_lim {α : Type} (f : Nat → mj_X α) : mj_X α := fun σ => @dite _ (∃ n, ¬ mj_stk (f n σ)) (Classical.propDecidable _) (fun h => f (Classical.choose h) σ) (fun _ => .error none σ)
noncomputable def mx_loop (C : mj_X Bool) (S U : mj_X mj_F) : mj_X mj_F := mj_lim (mj_wn C S U)
noncomputable def mx_do (S : mj_X mj_F) (C : mj_X Bool) : mj_X mj_F := mj_lim (mj_dn S C)
/-- switch: the cases by their numbers, the default; a break ends it -/
def mx_sw (E : mj_X Int32) (cs : List (Int × mj_X mj_F)) (D : mj_X mj_F) : mj_X mj_F := fun σ => mj_bd (E σ) fun x σ => mj_bd (((cs.lookup x.toInt).getD D) σ) fun f σ => match f with
  | some (.inr true) => .ok none σ
  | g => .ok g σ
/-- try: handlers by class; the caught object lies in the local k, unread -/
def mx_try (S : mj_X mj_F) (hs : List (Nat × Nat × mj_X mj_F)) : mj_X mj_F := fun σ => match S σ with
  | .error (some ci) τ => match hs.lookup ci with
    | some (k, T) => T ((mj_clr τ.1 k).set k none, τ.2)
    | none => .error none τ
  | r => r
/-- a method out of its body -/
def mj_sl (av : List Value) : mj_L := av.flatMap fun v => if v.category = 2 then [some v, none] else [some v]
def mj_L0 (nL : Nat) (av : List Value) : mj_L := mj_sl av ++ List.replicate (nL - (mj_sl av).length) none
def mj_mk (ret : Option FieldType) (nL : Nat) (S : mj_X mj_F) : List Value → mj_H → mj_Res := fun av h => if (mj_sl av).length ≤ nL then match S (mj_L0 nL av, h) with
    | .ok none σ => if ret = none then .ok none σ.2 else .error none σ.2
    | .ok (some (.inl v)) σ => if mj_rok ret v = true then .ok v σ.2 else .error none σ.2
    | .ok (some (.inr _)) σ => .error none σ.2
    | .error e σ => .error e σ.2
  else .error none h
