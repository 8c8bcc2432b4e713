/-! MINI: the claim's methods over cells by ids. A cell: its kind, its length, ints, longs, references (ids).
kinds: 0 byte[], 1 int[], 2 long[], 3 boolean[], 4 Unit[]; 5 ObjectForge, 6 Unit, 7 ObjectForgeModel, 8 IllegalStateException, 9 IllegalArgumentException, 10 IndexOutOfBoundsException; 97 a String constant, 98 the script, 99 nothing.
ids: 0..25 the String constants, 26 the script, 27.. what is made, in the order of its making. -/
abbrev mj_C : Type := Nat × Nat × (Nat → Int32) × (Nat → Int64) × (Nat → Option Nat)
abbrev mj_H : Type := (Nat → mj_C) × Nat × Nat
abbrev mj_L : Type := List (Option Value)
abbrev mj_S : Type := mj_L × mj_H
def mj_up {α : Type} (f : Nat → α) (a : Nat) (x : α) : Nat → α := fun i => if i = a then x else f i
theorem mj_up_s {α : Type} (f : Nat → α) (a : Nat) (x : α) : mj_up f a x a = x := if_pos rfl
theorem mj_up_n {α : Type} (f : Nat → α) {a i : Nat} (x : α) (h : i ≠ a) : mj_up f a x i = f i := if_neg h
/-- an id's address -/
def mj_tr (b lo : Nat) (adK : Nat → Nat) (i : Nat) : Nat := if i < 26 then adK i else if i = 26 then b else lo + (i - 27)
def mj_tv (t : Nat → Nat) (v : Value) : Value := match v with
  | .ref i => .ref (t i)
  | w => w
theorem mj_tv_rf (t : Nat → Nat) (r : Option Nat) : mj_tv t (va_rf r) = va_rf (r.map t) := by cases r <;> rfl
theorem mj_tv_cat (t : Nat → Nat) (v : Value) : (mj_tv t v).category = v.category := by cases v <;> rfl
def mj_et (k : Nat) : FieldType := match k with
  | 0 => .byte
  | 1 => .int
  | 2 => .long
  | 3 => .boolean
  | _ => .object RX3
abbrev mj_cl : List vw_C := [(RX1, TX1, 25), (RX3, TX3, 18), (RX2, TX2, 52), (RJ3, TJ3, 0), (RJ4, TJ4, 0), (RJ9, TJ9, 0)]
def mj_N (ci : Nat) : Nat := match ci with
  | 0 => 25
  | 1 => 18
  | 2 => 52
  | _ => 0
def mj_ty (ci : Nat) : Nat → FieldType := match ci with
  | 0 => tyX1
  | 1 => tyX3
  | _ => tyX2
def mj_fv (ty : FieldType) (i : Int32) (j : Int64) (r : Value) : Value := match ty with
  | .long => .long j
  | .object _ => r
  | .array _ => r
  | _ => .int i
def mj_fs (t : Nat → Nat) (ci : Nat) (c : mj_C) : List Value := (List.range (mj_N ci)).map fun k => mj_fv (mj_ty ci k) (c.2.2.1 k) (c.2.2.2.1 k) (va_rf ((c.2.2.2.2 k).map t))
def mj_e (t : Nat → Nat) (κ : ClassId) (c : mj_C) : va_E :=
  if c.1 = 2 then .inl (κ, c.2.1, .inr (.inl c.2.2.2.1))
  else if c.1 = 4 then .inl (κ, c.2.1, .inr (.inr (.inr (.inr fun j => (c.2.2.2.2 j).map t))))
  else if c.1 < 4 then .inl (κ, c.2.1, .inl c.2.2.1)
  else .inr (c.1 - 5, mj_fs t (c.1 - 5) c)
theorem mj_e_obj {t : Nat → Nat} {κ : ClassId} {c : mj_C} {ci : Nat} (h : c.1 = 5 + ci) : mj_e t κ c = .inr (ci, mj_fs t ci c) := by
  have e : c.1 - 5 = ci := by omega
  unfold mj_e
  rw [if_neg (by omega), if_neg (by omega), if_neg (by omega), e]
theorem mj_e_int {t : Nat → Nat} {κ : ClassId} {c : mj_C} (h : c.1 < 4) (h2 : c.1 ≠ 2) : mj_e t κ c = .inl (κ, c.2.1, .inl c.2.2.1) := by
  unfold mj_e
  rw [if_neg h2, if_neg (by omega), if_pos h]
theorem mj_e_long {t : Nat → Nat} {κ : ClassId} {c : mj_C} (h : c.1 = 2) : mj_e t κ c = .inl (κ, c.2.1, .inr (.inl c.2.2.2.1)) := by
  unfold mj_e
  rw [if_pos h]
theorem mj_e_ref {t : Nat → Nat} {κ : ClassId} {c : mj_C} (h : c.1 = 4) : mj_e t κ c = .inl (κ, c.2.1, .inr (.inr (.inr (.inr fun j => (c.2.2.2.2 j).map t)))) := by
  unfold mj_e
  rw [if_neg (by omega), if_pos h]
/-- the kit's world out of the cells -/
def mj_ws (t : Nat → Nat) (κ : Nat → ClassId) (n : Nat) (M : Nat → mj_C) : va_W := (List.range (n - 27)).map fun i => (t (i + 27), mj_e t (κ (i + 27)) (M (i + 27)))
theorem mj_ws_at {t : Nat → Nat} {κ : Nat → ClassId} {n : Nat} {M : Nat → mj_C} {a : Nat} (h : 27 ≤ a) (h2 : a < n) : (mj_ws t κ n M)[a - 27]? = some (t a, mj_e t (κ a) (M a)) := by
  unfold mj_ws
  rw [List.getElem?_map, List.getElem?_range (by omega)]
  have e : a - 27 + 27 = a := by omega
  simp [e]
theorem mj_ws_inv {t : Nat → Nat} {κ : Nat → ClassId} {n : Nat} {M : Nat → mj_C} {k : Nat} {q : Nat × va_E} (h : (mj_ws t κ n M)[k]? = some q) : k < n - 27 ∧ q = (t (k + 27), mj_e t (κ (k + 27)) (M (k + 27))) := by
  unfold mj_ws at h
  rw [List.getElem?_map] at h
  by_cases hk : k < n - 27
  · rw [List.getElem?_range hk] at h
    exact ⟨hk, (Option.some.inj h).symm⟩
  · rw [List.getElem?_eq_none (by simpa using hk)] at h
    cases h
theorem mj_ws_set {t : Nat → Nat} {κ : Nat → ClassId} {n : Nat} {M : Nat → mj_C} {a : Nat} (h : 27 ≤ a) (c : mj_C) : (mj_ws t κ n M).set (a - 27) (t a, mj_e t (κ a) c) = mj_ws t κ n (mj_up M a c) := by
  apply List.ext_getElem?
  intro k
  have ea : a - 27 + 27 = a := by omega
  by_cases hk : k < n - 27
  · by_cases e : k = a - 27
    · subst e
      rw [List.getElem?_set_self (by simpa [mj_ws] using hk), mj_ws_at h (by omega), mj_up_s]
    · rw [List.getElem?_set_ne (Ne.symm e)]
      have e2 : k + 27 ≠ a := by omega
      simp [mj_ws, List.getElem?_range hk, mj_up, e2]
  · rw [List.getElem?_eq_none (by simp [mj_ws]; omega), List.getElem?_eq_none (by simp [mj_ws]; omega)]
theorem mj_ws_push {t : Nat → Nat} {κ : Nat → ClassId} {n : Nat} {M : Nat → mj_C} (h : 27 ≤ n) (x : ClassId) (c : mj_C) : mj_ws t κ n M ++ [(t n, mj_e t x c)] = mj_ws t (mj_up κ n x) (n + 1) (mj_up M n c) := by
  apply List.ext_getElem?
  intro k
  have hlen : (mj_ws t κ n M).length = n - 27 := by simp [mj_ws]
  by_cases hk : k < n - 27
  · have e2 : k + 27 ≠ n := by omega
    have l1 := mj_ws_at (t := t) (κ := κ) (n := n) (M := M) (a := k + 27) (by omega) (by omega)
    have l2 := mj_ws_at (t := t) (κ := mj_up κ n x) (n := n + 1) (M := mj_up M n c) (a := k + 27) (by omega) (by omega)
    rw [Nat.add_sub_cancel] at l1 l2
    rw [mj_up_n _ _ e2, mj_up_n _ _ e2] at l2
    rw [List.getElem?_append_left (by omega), l1, l2]
  · rw [List.getElem?_append_right (by omega), hlen]
    by_cases e : k = n - 27
    · have l2 := mj_ws_at (t := t) (κ := mj_up κ n x) (n := n + 1) (M := mj_up M n c) (a := n) h (by omega)
      rw [mj_up_s, mj_up_s] at l2
      rw [e, l2, Nat.sub_self]
      rfl
    · rw [List.getElem?_eq_none (by simp; omega), List.getElem?_eq_none (by simp [mj_ws]; omega)]
/-- what is made lies from lo on -/
def mj_A (lo : Nat) : Nat → Prop := fun q => lo ≤ q
theorem mj_tr_made {b lo : Nat} {adK : Nat → Nat} {i : Nat} (h : 27 ≤ i) : mj_tr b lo adK i = lo + (i - 27) := by
  unfold mj_tr
  rw [if_neg (by omega), if_neg (by omega)]
theorem mj_D (b lo : Nat) (adK : Nat → Nat) (κ : Nat → ClassId) (n : Nat) (M : Nat → mj_C) : va_D (mj_A lo) (mj_ws (mj_tr b lo adK) κ n M) := by
  refine ⟨fun i j p q hi hj e => ?_, fun k q hk => ?_⟩
  · obtain ⟨-, rfl⟩ := mj_ws_inv hi
    obtain ⟨-, rfl⟩ := mj_ws_inv hj
    dsimp only at e
    rw [mj_tr_made (by omega), mj_tr_made (by omega)] at e
    omega
  · obtain ⟨-, rfl⟩ := mj_ws_inv hk
    show lo ≤ mj_tr b lo adK (k + 27)
    rw [mj_tr_made (by omega)]
    omega
/-- a String constant: its object, its bytes -/
def mj_str (len : Nat) (byt : List Int32) (ad : Nat) (A : Nat → Prop) (U : State) (H : Heap) : Prop := va_O RJ5 ad A U H ∧ va_OF RJ5 "coder" "B" (.int 0) ad A U H ∧ ∃ v : Nat, va_OF RJ5 "value" "[B" (.ref v) ad A U H ∧ va_T .byte v len (fun j => .int (byt.getD j 0)) A U H
/-- the constants: entry in the pool of ObjectForge, text -/
def mj_tx : List (Nat × String) := [(115, " zero 0 at 1 v0 2 v1 3 a0 4 a1 5 a2 6 a3 7 t0 8 t1 9 t2 10 t3 11 t4 12 t5 13 t6 14 t7 15 s0 16 s1 17 s2 18 s3 19 s4 20 s5 21 s6 22 s7 23 t8 24 t9 25 k0 26 k1 27 gp 28 sp 29 fp 30 s8 30 ra 31 "), (248, " .text 0 .data 1 .bss 2 .globl 3 .word 4 .half 5 .byte 6 .space 7 .align 8 .ascii 9 .asciiz 10 "), (274, " addu 33 subu 35 add 32 sub 34 and 36 or 37 xor 38 nor 39 slt 42 sltu 43 movz 10 movn 11 mul 66 "), (276, " sll 0 srl 2 sra 3 "), (278, " sllv 4 srlv 6 srav 7 "), (280, " mult 24 multu 25 madd 64 maddu 65 msub 68 msubu 69 teq 52 tne 54 tge 48 tgeu 49 tlt 50 tltu 51 "), (282, " div 26 divu 27 rem 90 remu 91 "), (284, " mfhi 16 mflo 18 "), (286, " mthi 17 mtlo 19 jr 8 "), (288, " clz 96 clo 97 jalr 9 move 33 not 39 neg 35 "), (290, " addiu 9 addi 8 slti 10 sltiu 11 "), (292, " andi 12 ori 13 xori 14 "), (294, " lb 32 lbu 36 lh 33 lhu 37 lw 35 lwl 34 lwr 38 sb 40 sh 41 sw 43 swl 42 swr 46 ll 48 sc 56 "), (296, " lwc1 49 swc1 57 ldc1 53 sdc1 61 "), (298, " beq 4 bne 5 beql 20 bnel 21 "), (300, " blez 6 bgtz 7 blezl 22 bgtzl 23 bltz 256 bgez 257 bltzl 258 bgezl 259 bltzal 272 bgezal 273 beqz 4 bnez 5 "), (302, " bc1f 0 bc1t 1 bc1fl 2 bc1tl 3 "), (304, " b 0 bal 1 j 2 jal 3 "), (306, " blt 0 bge 1 bgt 2 ble 3 bltu 4 bgeu 5 bgtu 6 bleu 7 "), (308, " mfc1 0 mtc1 4 "), (310, " nop 0 sync 15 syscall 12 break 13 "), (312, " li 0 la 1 lui 2 "), (317, " cvt.s.d 544 cvt.s.w 640 cvt.d.s 513 cvt.d.w 641 "), (322, " add 0 sub 1 mul 2 div 3 "), (324, " abs 5 neg 7 mov 6 sqrt 4 trunc.w 13 round.w 12 ceil.w 14 floor.w 15 cvt.w 36 "), (326, " f 0 un 1 eq 2 ueq 3 olt 4 ult 5 ole 6 ule 7 sf 8 ngle 9 seq 10 ngl 11 lt 12 nge 13 le 14 ngt 15 ")]
def mj_bys : List (List Int32) := [[32, 122, 101, 114, 111, 32, 48, 32, 97, 116, 32, 49, 32, 118, 48, 32, 50, 32, 118, 49, 32, 51, 32, 97, 48, 32, 52, 32, 97, 49, 32, 53, 32, 97, 50, 32, 54, 32, 97, 51, 32, 55, 32, 116, 48, 32, 56, 32, 116, 49, 32, 57, 32, 116, 50, 32, 49, 48, 32, 116, 51, 32, 49, 49, 32, 116, 52, 32, 49, 50, 32, 116, 53, 32, 49, 51, 32, 116, 54, 32, 49, 52, 32, 116, 55, 32, 49, 53, 32, 115, 48, 32, 49, 54, 32, 115, 49, 32, 49, 55, 32, 115, 50, 32, 49, 56, 32, 115, 51, 32, 49, 57, 32, 115, 52, 32, 50, 48, 32, 115, 53, 32, 50, 49, 32, 115, 54, 32, 50, 50, 32, 115, 55, 32, 50, 51, 32, 116, 56, 32, 50, 52, 32, 116, 57, 32, 50, 53, 32, 107, 48, 32, 50, 54, 32, 107, 49, 32, 50, 55, 32, 103, 112, 32, 50, 56, 32, 115, 112, 32, 50, 57, 32, 102, 112, 32, 51, 48, 32, 115, 56, 32, 51, 48, 32, 114, 97, 32, 51, 49, 32],
  [32, 46, 116, 101, 120, 116, 32, 48, 32, 46, 100, 97, 116, 97, 32, 49, 32, 46, 98, 115, 115, 32, 50, 32, 46, 103, 108, 111, 98, 108, 32, 51, 32, 46, 119, 111, 114, 100, 32, 52, 32, 46, 104, 97, 108, 102, 32, 53, 32, 46, 98, 121, 116, 101, 32, 54, 32, 46, 115, 112, 97, 99, 101, 32, 55, 32, 46, 97, 108, 105, 103, 110, 32, 56, 32, 46, 97, 115, 99, 105, 105, 32, 57, 32, 46, 97, 115, 99, 105, 105, 122, 32, 49, 48, 32],
  [32, 97, 100, 100, 117, 32, 51, 51, 32, 115, 117, 98, 117, 32, 51, 53, 32, 97, 100, 100, 32, 51, 50, 32, 115, 117, 98, 32, 51, 52, 32, 97, 110, 100, 32, 51, 54, 32, 111, 114, 32, 51, 55, 32, 120, 111, 114, 32, 51, 56, 32, 110, 111, 114, 32, 51, 57, 32, 115, 108, 116, 32, 52, 50, 32, 115, 108, 116, 117, 32, 52, 51, 32, 109, 111, 118, 122, 32, 49, 48, 32, 109, 111, 118, 110, 32, 49, 49, 32, 109, 117, 108, 32, 54, 54, 32],
  [32, 115, 108, 108, 32, 48, 32, 115, 114, 108, 32, 50, 32, 115, 114, 97, 32, 51, 32],
  [32, 115, 108, 108, 118, 32, 52, 32, 115, 114, 108, 118, 32, 54, 32, 115, 114, 97, 118, 32, 55, 32],
  [32, 109, 117, 108, 116, 32, 50, 52, 32, 109, 117, 108, 116, 117, 32, 50, 53, 32, 109, 97, 100, 100, 32, 54, 52, 32, 109, 97, 100, 100, 117, 32, 54, 53, 32, 109, 115, 117, 98, 32, 54, 56, 32, 109, 115, 117, 98, 117, 32, 54, 57, 32, 116, 101, 113, 32, 53, 50, 32, 116, 110, 101, 32, 53, 52, 32, 116, 103, 101, 32, 52, 56, 32, 116, 103, 101, 117, 32, 52, 57, 32, 116, 108, 116, 32, 53, 48, 32, 116, 108, 116, 117, 32, 53, 49, 32],
  [32, 100, 105, 118, 32, 50, 54, 32, 100, 105, 118, 117, 32, 50, 55, 32, 114, 101, 109, 32, 57, 48, 32, 114, 101, 109, 117, 32, 57, 49, 32],
  [32, 109, 102, 104, 105, 32, 49, 54, 32, 109, 102, 108, 111, 32, 49, 56, 32],
  [32, 109, 116, 104, 105, 32, 49, 55, 32, 109, 116, 108, 111, 32, 49, 57, 32, 106, 114, 32, 56, 32],
  [32, 99, 108, 122, 32, 57, 54, 32, 99, 108, 111, 32, 57, 55, 32, 106, 97, 108, 114, 32, 57, 32, 109, 111, 118, 101, 32, 51, 51, 32, 110, 111, 116, 32, 51, 57, 32, 110, 101, 103, 32, 51, 53, 32],
  [32, 97, 100, 100, 105, 117, 32, 57, 32, 97, 100, 100, 105, 32, 56, 32, 115, 108, 116, 105, 32, 49, 48, 32, 115, 108, 116, 105, 117, 32, 49, 49, 32],
  [32, 97, 110, 100, 105, 32, 49, 50, 32, 111, 114, 105, 32, 49, 51, 32, 120, 111, 114, 105, 32, 49, 52, 32],
  [32, 108, 98, 32, 51, 50, 32, 108, 98, 117, 32, 51, 54, 32, 108, 104, 32, 51, 51, 32, 108, 104, 117, 32, 51, 55, 32, 108, 119, 32, 51, 53, 32, 108, 119, 108, 32, 51, 52, 32, 108, 119, 114, 32, 51, 56, 32, 115, 98, 32, 52, 48, 32, 115, 104, 32, 52, 49, 32, 115, 119, 32, 52, 51, 32, 115, 119, 108, 32, 52, 50, 32, 115, 119, 114, 32, 52, 54, 32, 108, 108, 32, 52, 56, 32, 115, 99, 32, 53, 54, 32],
  [32, 108, 119, 99, 49, 32, 52, 57, 32, 115, 119, 99, 49, 32, 53, 55, 32, 108, 100, 99, 49, 32, 53, 51, 32, 115, 100, 99, 49, 32, 54, 49, 32],
  [32, 98, 101, 113, 32, 52, 32, 98, 110, 101, 32, 53, 32, 98, 101, 113, 108, 32, 50, 48, 32, 98, 110, 101, 108, 32, 50, 49, 32],
  [32, 98, 108, 101, 122, 32, 54, 32, 98, 103, 116, 122, 32, 55, 32, 98, 108, 101, 122, 108, 32, 50, 50, 32, 98, 103, 116, 122, 108, 32, 50, 51, 32, 98, 108, 116, 122, 32, 50, 53, 54, 32, 98, 103, 101, 122, 32, 50, 53, 55, 32, 98, 108, 116, 122, 108, 32, 50, 53, 56, 32, 98, 103, 101, 122, 108, 32, 50, 53, 57, 32, 98, 108, 116, 122, 97, 108, 32, 50, 55, 50, 32, 98, 103, 101, 122, 97, 108, 32, 50, 55, 51, 32, 98, 101, 113, 122, 32, 52, 32, 98, 110, 101, 122, 32, 53, 32],
  [32, 98, 99, 49, 102, 32, 48, 32, 98, 99, 49, 116, 32, 49, 32, 98, 99, 49, 102, 108, 32, 50, 32, 98, 99, 49, 116, 108, 32, 51, 32],
  [32, 98, 32, 48, 32, 98, 97, 108, 32, 49, 32, 106, 32, 50, 32, 106, 97, 108, 32, 51, 32],
  [32, 98, 108, 116, 32, 48, 32, 98, 103, 101, 32, 49, 32, 98, 103, 116, 32, 50, 32, 98, 108, 101, 32, 51, 32, 98, 108, 116, 117, 32, 52, 32, 98, 103, 101, 117, 32, 53, 32, 98, 103, 116, 117, 32, 54, 32, 98, 108, 101, 117, 32, 55, 32],
  [32, 109, 102, 99, 49, 32, 48, 32, 109, 116, 99, 49, 32, 52, 32],
  [32, 110, 111, 112, 32, 48, 32, 115, 121, 110, 99, 32, 49, 53, 32, 115, 121, 115, 99, 97, 108, 108, 32, 49, 50, 32, 98, 114, 101, 97, 107, 32, 49, 51, 32],
  [32, 108, 105, 32, 48, 32, 108, 97, 32, 49, 32, 108, 117, 105, 32, 50, 32],
  [32, 99, 118, 116, 46, 115, 46, 100, 32, 53, 52, 52, 32, 99, 118, 116, 46, 115, 46, 119, 32, 54, 52, 48, 32, 99, 118, 116, 46, 100, 46, 115, 32, 53, 49, 51, 32, 99, 118, 116, 46, 100, 46, 119, 32, 54, 52, 49, 32],
  [32, 97, 100, 100, 32, 48, 32, 115, 117, 98, 32, 49, 32, 109, 117, 108, 32, 50, 32, 100, 105, 118, 32, 51, 32],
  [32, 97, 98, 115, 32, 53, 32, 110, 101, 103, 32, 55, 32, 109, 111, 118, 32, 54, 32, 115, 113, 114, 116, 32, 52, 32, 116, 114, 117, 110, 99, 46, 119, 32, 49, 51, 32, 114, 111, 117, 110, 100, 46, 119, 32, 49, 50, 32, 99, 101, 105, 108, 46, 119, 32, 49, 52, 32, 102, 108, 111, 111, 114, 46, 119, 32, 49, 53, 32, 99, 118, 116, 46, 119, 32, 51, 54, 32],
  [32, 102, 32, 48, 32, 117, 110, 32, 49, 32, 101, 113, 32, 50, 32, 117, 101, 113, 32, 51, 32, 111, 108, 116, 32, 52, 32, 117, 108, 116, 32, 53, 32, 111, 108, 101, 32, 54, 32, 117, 108, 101, 32, 55, 32, 115, 102, 32, 56, 32, 110, 103, 108, 101, 32, 57, 32, 115, 101, 113, 32, 49, 48, 32, 110, 103, 108, 32, 49, 49, 32, 108, 116, 32, 49, 50, 32, 110, 103, 101, 32, 49, 51, 32, 108, 101, 32, 49, 52, 32, 110, 103, 116, 32, 49, 53, 32]]
def mj_by (i : Nat) : List Int32 := mj_bys.getD i []
/-- D, b, lo, length and ints of the script, addresses of the constants -/
abbrev mj_Z : Type := va_G × Nat × Nat × Nat × (Nat → Int32) × (Nat → Nat)
abbrev mj_t (Z : mj_Z) : Nat → Nat := mj_tr Z.2.1 Z.2.2.1 Z.2.2.2.2.2
/-- words that do not ride in the lists -/
def mj_nest : List Cond := [.methodLinkNest RX1 432 yX3_init RX1, .castable RJ3 RJ3, .castable RJ4 RJ4, .castable RJ9 RJ9, .declares ⟨"java/lang/RuntimeException", "<init>", "()V"⟩, .declares ⟨"java/lang/Exception", "<init>", "()V"⟩, .declares ⟨"java/lang/Throwable", "<init>", "()V"⟩, .fieldLinkNest RX1 201 RX3 "sizes" "[I" RX1, .fieldLinkNest RX1 161 RX3 "letters" "[B" RX1, .fieldLinkNest RX1 157 RX3 "lengths" "[I" RX1, .fieldLinkNest RX1 164 RX3 "sections" "[I" RX1, .fieldLinkNest RX1 167 RX3 "values" "[I" RX1, .fieldLinkNest RX1 170 RX3 "global" "[Z" RX1, .fieldLinkNest RX1 473 RX3 "addresses" "[I" RX1, .fieldLinkNest RX1 455 RX3 "begins" "[I" RX1, .fieldLinkNest RX1 154 RX3 "symbols" "I" RX1, .fieldLinkNest RX1 217 RX3 "where" "[I" RX1, .fieldLinkNest RX1 220 RX3 "place" "[I" RX1, .fieldLinkNest RX1 223 RX3 "kind" "[I" RX1, .fieldLinkNest RX1 226 RX3 "symbol" "[I" RX1, .fieldLinkNest RX1 229 RX3 "addend" "[I" RX1, .fieldLinkNest RX1 232 RX3 "line" "[I" RX1, .fieldLinkNest RX1 214 RX3 "relocations" "I" RX1]
theorem mj_nest_tab : ∀ w ∈ mj_nest, w.onTables = true := by decide +kernel
/-- the world that no method here changes -/
def mj_W (Z : mj_Z) (U : State) (H : Heap) : Prop :=
  va_K Z.1 mj_cl [] U ∧ (∀ i, i < 26 → mj_str (mj_by i).length (mj_by i) (Z.2.2.2.2.2 i) (mj_A Z.2.2.1) U H) ∧ (∀ (i ix : Nat) (tx : String), mj_tx[i]? = some (ix, tx) → vk_R RX1 ix tx (Z.2.2.2.2.2 i) U) ∧
  va_Z RJ5 "COMPACT_STRINGS" "Z" (.int 1) (mj_A Z.2.2.1) U H ∧ va_Zq RJ7 "SIOOBE_FORMATTER" "Ljava/util/function/BiFunction;" (mj_A Z.2.2.1) U H ∧ vx_Zq Bundle.tN "UNASSIGNED_STACK" Bundle.steD (mj_A Z.2.2.1) U H ∧ vx_Zq Bundle.tN "SUPPRESSED_SENTINEL" Bundle.listD (mj_A Z.2.2.1) U H ∧
  va_AO RX3 U ∧ (∀ w ∈ mj_nest, va_Nw w U) ∧ va_Nc RJ3 RJ4 U ∧ va_Nc RJ3 RJ9 U ∧
  va_X Z.2.1 Z.2.2.2.1 Z.2.2.2.2.1 U H ∧ Z.2.1 < H.size ∧ Z.2.1 < Z.2.2.1
/-- the heap holds the cells -/
def mj_Rep (Z : mj_Z) (U : State) (h : mj_H) (H : Heap) : Prop :=
  27 ≤ h.2.1 ∧ H.size = Z.2.2.1 + (h.2.1 - 27) ∧ (∀ i, h.2.1 ≤ i → (h.1 i).1 = 99) ∧ (∀ i, i < 26 → (h.1 i).1 = 97) ∧ h.1 26 = (98, Z.2.2.2.1, Z.2.2.2.2.1, fun _ => 0, fun _ => none) ∧
  ∃ κ : Nat → ClassId, va_P Z.1 mj_cl (mj_ws (mj_t Z) κ h.2.1 h.1) H ∧ ∀ i, (h.1 i).1 < 5 → ArrOfT U (κ i) (mj_et (h.1 i).1) ∧ va_RA U (κ i) (mj_et (h.1 i).1)
/-- the locals hold the known ones -/
def mj_Lo (t : Nat → Nat) (nL : Nat) (L : mj_L) (ls : Array Slot) : Prop := ls.size = nL ∧ lv_wf ls ∧ ∀ (k : Nat) (v : Value), L[k]? = some (some v) → ls[k]? = some (.val (mj_tv t v))
