section MjOps
variable {own : String} {cc : ByteArray} {nL fr : Nat} {ini : Bool} {hh : List (Nat × Nat × Nat × Nat)} {K : mj_M} {Z : mj_Z} {pc : Nat} {L : mj_L} {st : List Value} {h : mj_H}
theorem mj_iconst (C : mj_C0 own cc nL fr ini hh K Z) {n : Int} {v : Int32} (d : decode cc pc = .ok (.iconst n, 1)) (hv : Int32.ofInt n = v) (k : mj_G K Z (pc + 1) L (.int v :: st) h) : mj_G K Z pc L (st) h :=
  ⟨k.1, k.2.1, fun a b H ls locs r f g => lv_iconst C.ex C.cd d hv (k.2.2 a b H ls locs r f g)⟩
theorem mj_bipush (C : mj_C0 own cc nL fr ini hh K Z) {n : Int} {v : Int32} (d : decode cc pc = .ok (.bipush n, 2)) (hv : (Int8.ofInt n).toInt32 = v) (k : mj_G K Z (pc + 2) L (.int v :: st) h) : mj_G K Z pc L (st) h :=
  ⟨k.1, k.2.1, fun a b H ls locs r f g => lv_bipush C.ex C.cd d hv (k.2.2 a b H ls locs r f g)⟩
theorem mj_sipush (C : mj_C0 own cc nL fr ini hh K Z) {n : Int} {v : Int32} (d : decode cc pc = .ok (.sipush n, 3)) (hv : (Int16.ofInt n).toInt32 = v) (k : mj_G K Z (pc + 3) L (.int v :: st) h) : mj_G K Z pc L (st) h :=
  ⟨k.1, k.2.1, fun a b H ls locs r f g => lv_sipush C.ex C.cd d hv (k.2.2 a b H ls locs r f g)⟩
theorem mj_lconst (C : mj_C0 own cc nL fr ini hh K Z) {n : Fin 2} {v : Int64} (d : decode cc pc = .ok (.lconst n, 1)) (hv : Int64.ofNat (n : Nat) = v) (k : mj_G K Z (pc + 1) L (.long v :: st) h) : mj_G K Z pc L (st) h :=
  ⟨k.1, k.2.1, fun a b H ls locs r f g => lv_lconst C.ex C.cd d hv (k.2.2 a b H ls locs r f g)⟩
theorem mj_ldc (C : mj_C0 own cc nL fr ini hh K Z) {index : Nat} {v : Int32} (d : decode cc pc = .ok (.ldc index, 2)) (q : Jvm.Cond.constant own index v ∈ lw_all) (k : mj_G K Z (pc + 2) L (.int v :: st) h) : mj_G K Z pc L (st) h :=
  ⟨k.1, k.2.1, fun a b H ls locs r f g => lv_ldc C.ex C.cd C.ow (C.ts _ q) d (k.2.2 a b H ls locs r f g)⟩
theorem mj_ldcw (C : mj_C0 own cc nL fr ini hh K Z) {index : Nat} {v : Int32} (d : decode cc pc = .ok (.ldc_w index, 3)) (q : Jvm.Cond.constant own index v ∈ lw_all) (k : mj_G K Z (pc + 3) L (.int v :: st) h) : mj_G K Z pc L (st) h :=
  ⟨k.1, k.2.1, fun a b H ls locs r f g => lv_ldcw C.ex C.cd C.ow (C.ts _ q) d (k.2.2 a b H ls locs r f g)⟩
theorem mj_ldc2 (C : mj_C0 own cc nL fr ini hh K Z) {index : Nat} {v : Int64} (d : decode cc pc = .ok (.ldc2_w index, 3)) (q : Jvm.Cond.constantLong own index v ∈ lw_all) (k : mj_G K Z (pc + 3) L (.long v :: st) h) : mj_G K Z pc L (st) h :=
  ⟨k.1, k.2.1, fun a b H ls locs r f g => lv_ldc2 C.ex C.cd C.ow (C.ts _ q) d (k.2.2 a b H ls locs r f g)⟩
theorem mj_iload_n (C : mj_C0 own cc nL fr ini hh K Z) {k0 : Fin 4} {i : Nat} {x : Int32} (d : decode cc pc = .ok (.iload_n k0, 1)) (hi : (k0 : Nat) = i) (hl : L[i]? = some (some (.int x))) (k : mj_G K Z (pc + 1) L (.int x :: st) h) : mj_G K Z pc L (st) h :=
  ⟨k.1, k.2.1, fun a b H ls locs r f g => lv_iload_n C.ex C.cd d hi (g.2.2 i _ hl) (k.2.2 a b H ls locs r f g)⟩
theorem mj_iload (C : mj_C0 own cc nL fr ini hh K Z) {i : Nat} {x : Int32} (d : decode cc pc = .ok (.iload i, 2)) (hl : L[i]? = some (some (.int x))) (k : mj_G K Z (pc + 2) L (.int x :: st) h) : mj_G K Z pc L (st) h :=
  ⟨k.1, k.2.1, fun a b H ls locs r f g => lv_iload C.ex C.cd d (g.2.2 i _ hl) (k.2.2 a b H ls locs r f g)⟩
theorem mj_lload_n (C : mj_C0 own cc nL fr ini hh K Z) {k0 : Fin 4} {i : Nat} {x : Int64} (d : decode cc pc = .ok (.lload_n k0, 1)) (hi : (k0 : Nat) = i) (hl : L[i]? = some (some (.long x))) (k : mj_G K Z (pc + 1) L (.long x :: st) h) : mj_G K Z pc L (st) h :=
  ⟨k.1, k.2.1, fun a b H ls locs r f g => lv_lload_n C.ex C.cd d hi (g.2.2 i _ hl) (k.2.2 a b H ls locs r f g)⟩
theorem mj_lload (C : mj_C0 own cc nL fr ini hh K Z) {i : Nat} {x : Int64} (d : decode cc pc = .ok (.lload i, 2)) (hl : L[i]? = some (some (.long x))) (k : mj_G K Z (pc + 2) L (.long x :: st) h) : mj_G K Z pc L (st) h :=
  ⟨k.1, k.2.1, fun a b H ls locs r f g => lv_lload C.ex C.cd d (g.2.2 i _ hl) (k.2.2 a b H ls locs r f g)⟩
theorem mj_aload_n (C : mj_C0 own cc nL fr ini hh K Z) {k0 : Fin 4} {i : Nat} {x : Option Nat} (d : decode cc pc = .ok (.aload_n k0, 1)) (hi : (k0 : Nat) = i) (hl : L[i]? = some (some (va_rf x))) (k : mj_G K Z (pc + 1) L (va_rf x :: st) h) : mj_G K Z pc L st h := by
  refine ⟨k.1, k.2.1, fun a b H ls locs r f g => ?_⟩
  have k2 := k.2.2 a b H ls locs r f g
  have g2 := g.2.2 i _ hl
  cases x with
  | none => exact lv_aload_nN C.ex C.cd d hi g2 k2
  | some y => exact lv_aload_n C.ex C.cd d hi g2 k2
theorem mj_aload (C : mj_C0 own cc nL fr ini hh K Z) {i : Nat} {x : Option Nat} (d : decode cc pc = .ok (.aload i, 2)) (hl : L[i]? = some (some (va_rf x))) (k : mj_G K Z (pc + 2) L (va_rf x :: st) h) : mj_G K Z pc L st h := by
  refine ⟨k.1, k.2.1, fun a b H ls locs r f g => ?_⟩
  have k2 := k.2.2 a b H ls locs r f g
  have g2 := g.2.2 i _ hl
  cases x with
  | none => exact lv_aloadN C.ex C.cd d g2 k2
  | some y => exact lv_aload C.ex C.cd d g2 k2
theorem mj_istore_n (C : mj_C0 own cc nL fr ini hh K Z) {k0 : Fin 4} {i : Nat} {x : Int32} (d : decode cc pc = .ok (.istore_n k0, 1)) (hi : (k0 : Nat) = i) (hn : i < nL) (k : mj_G K Z (pc + 1) (mj_s1 L i (.int x)) st h) : mj_G K Z pc L (.int x :: st) h :=
  ⟨k.1, k.2.1, fun a b H ls locs r f g => lv_istore_n C.ex C.cd d hi g.has (by rw [C.ml]; exact hn) rfl fun ls2 g2 => k.2.2 a b H ls2 locs r f (mj_s1_of (v := .int x) g2)⟩
theorem mj_istore (C : mj_C0 own cc nL fr ini hh K Z) {i : Nat} {x : Int32} (d : decode cc pc = .ok (.istore i, 2)) (hn : i < nL) (k : mj_G K Z (pc + 2) (mj_s1 L i (.int x)) st h) : mj_G K Z pc L (.int x :: st) h :=
  ⟨k.1, k.2.1, fun a b H ls locs r f g => lv_istore C.ex C.cd d g.has (by rw [C.ml]; exact hn) rfl fun ls2 g2 => k.2.2 a b H ls2 locs r f (mj_s1_of (v := .int x) g2)⟩
theorem mj_lstore_n (C : mj_C0 own cc nL fr ini hh K Z) {k0 : Fin 4} {i : Nat} {x : Int64} (d : decode cc pc = .ok (.lstore_n k0, 1)) (hi : (k0 : Nat) = i) (hn : i + 1 < nL) (k : mj_G K Z (pc + 1) (mj_s2 L i (.long x)) st h) : mj_G K Z pc L (.long x :: st) h :=
  ⟨k.1, k.2.1, fun a b H ls locs r f g => lv_lstore_n C.ex C.cd d hi g.has (by rw [C.ml]; exact hn) rfl fun ls2 g2 => k.2.2 a b H ls2 locs r f (mj_s2_of (v := .long x) g2)⟩
theorem mj_lstore (C : mj_C0 own cc nL fr ini hh K Z) {i : Nat} {x : Int64} (d : decode cc pc = .ok (.lstore i, 2)) (hn : i + 1 < nL) (k : mj_G K Z (pc + 2) (mj_s2 L i (.long x)) st h) : mj_G K Z pc L (.long x :: st) h :=
  ⟨k.1, k.2.1, fun a b H ls locs r f g => lv_lstore C.ex C.cd d g.has (by rw [C.ml]; exact hn) rfl fun ls2 g2 => k.2.2 a b H ls2 locs r f (mj_s2_of (v := .long x) g2)⟩
theorem mj_astore_n (C : mj_C0 own cc nL fr ini hh K Z) {k0 : Fin 4} {i : Nat} {x : Nat} (d : decode cc pc = .ok (.astore_n k0, 1)) (hi : (k0 : Nat) = i) (hn : i < nL) (k : mj_G K Z (pc + 1) (mj_s1 L i (.ref x)) st h) : mj_G K Z pc L (.ref x :: st) h :=
  ⟨k.1, k.2.1, fun a b H ls locs r f g => lv_astore_n C.ex C.cd d hi g.has (by rw [C.ml]; exact hn) rfl fun ls2 g2 => k.2.2 a b H ls2 locs r f (mj_s1_of (v := .ref x) g2)⟩
theorem mj_astore (C : mj_C0 own cc nL fr ini hh K Z) {i : Nat} {x : Nat} (d : decode cc pc = .ok (.astore i, 2)) (hn : i < nL) (k : mj_G K Z (pc + 2) (mj_s1 L i (.ref x)) st h) : mj_G K Z pc L (.ref x :: st) h :=
  ⟨k.1, k.2.1, fun a b H ls locs r f g => lv_astore C.ex C.cd d g.has (by rw [C.ml]; exact hn) rfl fun ls2 g2 => k.2.2 a b H ls2 locs r f (mj_s1_of (v := .ref x) g2)⟩
theorem mj_iinc (C : mj_C0 own cc nL fr ini hh K Z) {i : Nat} {n : Int} {x v : Int32} (d : decode cc pc = .ok (.iinc i n, 3)) (hl : L[i]? = some (some (.int x))) (hv : x + Int32.ofInt n = v) (hn : i < nL) (k : mj_G K Z (pc + 3) (mj_s1 L i (.int v)) st h) : mj_G K Z pc L st h := by
  refine ⟨k.1, k.2.1, fun a b H ls locs r f g => ?_⟩
  obtain ⟨j, hj⟩ := List.getElem?_of_mem (mj_lv_mem (t := mj_t Z) (q := (i, .int x)).mpr ⟨_, hl, rfl⟩)
  exact lv_iinc C.ex C.cd d g.has hj hv (by rw [C.ml]; exact hn) rfl fun ls2 g2 => k.2.2 a b H ls2 locs r f (mj_s1_of (v := .int v) g2)
theorem mj_iadd (C : mj_C0 own cc nL fr ini hh K Z) {x y : Int32} (d : decode cc pc = .ok (.iadd, 1))  (k : mj_G K Z (pc + 1) L (.int (x + y) :: st) h) : mj_G K Z pc L (.int y :: .int x :: st) h :=
  ⟨k.1, k.2.1, fun a b H ls locs r f g => lv_iadd C.ex C.cd d (k.2.2 a b H ls locs r f g)⟩
theorem mj_isub (C : mj_C0 own cc nL fr ini hh K Z) {x y : Int32} (d : decode cc pc = .ok (.isub, 1))  (k : mj_G K Z (pc + 1) L (.int (x - y) :: st) h) : mj_G K Z pc L (.int y :: .int x :: st) h :=
  ⟨k.1, k.2.1, fun a b H ls locs r f g => lv_isub C.ex C.cd d (k.2.2 a b H ls locs r f g)⟩
theorem mj_imul (C : mj_C0 own cc nL fr ini hh K Z) {x y : Int32} (d : decode cc pc = .ok (.imul, 1))  (k : mj_G K Z (pc + 1) L (.int (x * y) :: st) h) : mj_G K Z pc L (.int y :: .int x :: st) h :=
  ⟨k.1, k.2.1, fun a b H ls locs r f g => lv_imul C.ex C.cd d (k.2.2 a b H ls locs r f g)⟩
theorem mj_iand (C : mj_C0 own cc nL fr ini hh K Z) {x y : Int32} (d : decode cc pc = .ok (.iand, 1))  (k : mj_G K Z (pc + 1) L (.int (x &&& y) :: st) h) : mj_G K Z pc L (.int y :: .int x :: st) h :=
  ⟨k.1, k.2.1, fun a b H ls locs r f g => lv_iand C.ex C.cd d (k.2.2 a b H ls locs r f g)⟩
theorem mj_ior (C : mj_C0 own cc nL fr ini hh K Z) {x y : Int32} (d : decode cc pc = .ok (.ior, 1))  (k : mj_G K Z (pc + 1) L (.int (x ||| y) :: st) h) : mj_G K Z pc L (.int y :: .int x :: st) h :=
  ⟨k.1, k.2.1, fun a b H ls locs r f g => lv_ior C.ex C.cd d (k.2.2 a b H ls locs r f g)⟩
theorem mj_ixor (C : mj_C0 own cc nL fr ini hh K Z) {x y : Int32} (d : decode cc pc = .ok (.ixor, 1))  (k : mj_G K Z (pc + 1) L (.int (x ^^^ y) :: st) h) : mj_G K Z pc L (.int y :: .int x :: st) h :=
  ⟨k.1, k.2.1, fun a b H ls locs r f g => lv_ixor C.ex C.cd d (k.2.2 a b H ls locs r f g)⟩
theorem mj_idiv (C : mj_C0 own cc nL fr ini hh K Z) {x y : Int32} (d : decode cc pc = .ok (.idiv, 1)) (hne : ¬ y = 0) (k : mj_G K Z (pc + 1) L (.int (x / y) :: st) h) : mj_G K Z pc L (.int y :: .int x :: st) h :=
  ⟨k.1, k.2.1, fun a b H ls locs r f g => lv_idiv C.ex C.cd d hne (k.2.2 a b H ls locs r f g)⟩
theorem mj_irem (C : mj_C0 own cc nL fr ini hh K Z) {x y : Int32} (d : decode cc pc = .ok (.irem, 1)) (hne : ¬ y = 0) (k : mj_G K Z (pc + 1) L (.int (x - x / y * y) :: st) h) : mj_G K Z pc L (.int y :: .int x :: st) h :=
  ⟨k.1, k.2.1, fun a b H ls locs r f g => lv_irem C.ex C.cd d hne (k.2.2 a b H ls locs r f g)⟩
theorem mj_ishl (C : mj_C0 own cc nL fr ini hh K Z) {x y : Int32} (d : decode cc pc = .ok (.ishl, 1))  (k : mj_G K Z (pc + 1) L (.int (x <<< (y &&& 31)) :: st) h) : mj_G K Z pc L (.int y :: .int x :: st) h :=
  ⟨k.1, k.2.1, fun a b H ls locs r f g => lv_ishl C.ex C.cd d (k.2.2 a b H ls locs r f g)⟩
theorem mj_ishr (C : mj_C0 own cc nL fr ini hh K Z) {x y : Int32} (d : decode cc pc = .ok (.ishr, 1))  (k : mj_G K Z (pc + 1) L (.int (x >>> (y &&& 31)) :: st) h) : mj_G K Z pc L (.int y :: .int x :: st) h :=
  ⟨k.1, k.2.1, fun a b H ls locs r f g => lv_ishr C.ex C.cd d (k.2.2 a b H ls locs r f g)⟩
theorem mj_iushr (C : mj_C0 own cc nL fr ini hh K Z) {x y v : Int32} (d : decode cc pc = .ok (.iushr, 1)) (hv : (x.toUInt32 >>> (y.toUInt32 &&& Int32.toUInt32 31)).toInt32 = v) (k : mj_G K Z (pc + 1) L (.int v :: st) h) : mj_G K Z pc L (.int y :: .int x :: st) h :=
  ⟨k.1, k.2.1, fun a b H ls locs r f g => lv_iushr C.ex C.cd d hv (k.2.2 a b H ls locs r f g)⟩
theorem mj_ineg (C : mj_C0 own cc nL fr ini hh K Z) {x : Int32} (d : decode cc pc = .ok (.ineg, 1))  (k : mj_G K Z (pc + 1) L (.int (-x) :: st) h) : mj_G K Z pc L (.int x :: st) h :=
  ⟨k.1, k.2.1, fun a b H ls locs r f g => lv_ineg C.ex C.cd d (k.2.2 a b H ls locs r f g)⟩
theorem mj_ladd (C : mj_C0 own cc nL fr ini hh K Z) {x y : Int64} (d : decode cc pc = .ok (.ladd, 1))  (k : mj_G K Z (pc + 1) L (.long (x + y) :: st) h) : mj_G K Z pc L (.long y :: .long x :: st) h :=
  ⟨k.1, k.2.1, fun a b H ls locs r f g => lv_ladd C.ex C.cd d (k.2.2 a b H ls locs r f g)⟩
theorem mj_lsub (C : mj_C0 own cc nL fr ini hh K Z) {x y : Int64} (d : decode cc pc = .ok (.lsub, 1))  (k : mj_G K Z (pc + 1) L (.long (x - y) :: st) h) : mj_G K Z pc L (.long y :: .long x :: st) h :=
  ⟨k.1, k.2.1, fun a b H ls locs r f g => lv_lsub C.ex C.cd d (k.2.2 a b H ls locs r f g)⟩
theorem mj_lmul (C : mj_C0 own cc nL fr ini hh K Z) {x y : Int64} (d : decode cc pc = .ok (.lmul, 1))  (k : mj_G K Z (pc + 1) L (.long (x * y) :: st) h) : mj_G K Z pc L (.long y :: .long x :: st) h :=
  ⟨k.1, k.2.1, fun a b H ls locs r f g => lv_lmul C.ex C.cd d (k.2.2 a b H ls locs r f g)⟩
theorem mj_land (C : mj_C0 own cc nL fr ini hh K Z) {x y : Int64} (d : decode cc pc = .ok (.land, 1))  (k : mj_G K Z (pc + 1) L (.long (x &&& y) :: st) h) : mj_G K Z pc L (.long y :: .long x :: st) h :=
  ⟨k.1, k.2.1, fun a b H ls locs r f g => lv_land C.ex C.cd d (k.2.2 a b H ls locs r f g)⟩
theorem mj_lor (C : mj_C0 own cc nL fr ini hh K Z) {x y : Int64} (d : decode cc pc = .ok (.lor, 1))  (k : mj_G K Z (pc + 1) L (.long (x ||| y) :: st) h) : mj_G K Z pc L (.long y :: .long x :: st) h :=
  ⟨k.1, k.2.1, fun a b H ls locs r f g => lv_lor C.ex C.cd d (k.2.2 a b H ls locs r f g)⟩
theorem mj_ldiv (C : mj_C0 own cc nL fr ini hh K Z) {x y : Int64} (d : decode cc pc = .ok (.ldiv, 1)) (hne : ¬ y = 0) (k : mj_G K Z (pc + 1) L (.long (x / y) :: st) h) : mj_G K Z pc L (.long y :: .long x :: st) h :=
  ⟨k.1, k.2.1, fun a b H ls locs r f g => lv_ldiv C.ex C.cd d hne (k.2.2 a b H ls locs r f g)⟩
theorem mj_lrem (C : mj_C0 own cc nL fr ini hh K Z) {x y : Int64} (d : decode cc pc = .ok (.lrem, 1)) (hne : ¬ y = 0) (k : mj_G K Z (pc + 1) L (.long (x - x / y * y) :: st) h) : mj_G K Z pc L (.long y :: .long x :: st) h :=
  ⟨k.1, k.2.1, fun a b H ls locs r f g => lv_lrem C.ex C.cd d hne (k.2.2 a b H ls locs r f g)⟩
theorem mj_lneg (C : mj_C0 own cc nL fr ini hh K Z) {x : Int64} (d : decode cc pc = .ok (.lneg, 1))  (k : mj_G K Z (pc + 1) L (.long (-x) :: st) h) : mj_G K Z pc L (.long x :: st) h :=
  ⟨k.1, k.2.1, fun a b H ls locs r f g => lv_lneg C.ex C.cd d (k.2.2 a b H ls locs r f g)⟩
theorem mj_lshl (C : mj_C0 own cc nL fr ini hh K Z) {x v : Int64} {y : Int32} (d : decode cc pc = .ok (.lshl, 1)) (hv : x <<< (y.toInt64 &&& 63) = v) (k : mj_G K Z (pc + 1) L (.long v :: st) h) : mj_G K Z pc L (.int y :: .long x :: st) h :=
  ⟨k.1, k.2.1, fun a b H ls locs r f g => lv_lshl C.ex C.cd d hv (k.2.2 a b H ls locs r f g)⟩
theorem mj_lshr (C : mj_C0 own cc nL fr ini hh K Z) {x v : Int64} {y : Int32} (d : decode cc pc = .ok (.lshr, 1)) (hv : x >>> (y.toInt64 &&& 63) = v) (k : mj_G K Z (pc + 1) L (.long v :: st) h) : mj_G K Z pc L (.int y :: .long x :: st) h :=
  ⟨k.1, k.2.1, fun a b H ls locs r f g => lv_lshr C.ex C.cd d hv (k.2.2 a b H ls locs r f g)⟩
theorem mj_lcmp (C : mj_C0 own cc nL fr ini hh K Z) {x y : Int64} (d : decode cc pc = .ok (.lcmp, 1))  (k : mj_G K Z (pc + 1) L (.int (lg_cmp x y) :: st) h) : mj_G K Z pc L (.long y :: .long x :: st) h :=
  ⟨k.1, k.2.1, fun a b H ls locs r f g => W.lcmp C.ex C.cd d (k.2.2 a b H ls locs r f g)⟩
theorem mj_i2l (C : mj_C0 own cc nL fr ini hh K Z) {x : Int32} {v : Int64} (d : decode cc pc = .ok (.i2l, 1)) (hv : x.toInt64 = v) (k : mj_G K Z (pc + 1) L (.long v :: st) h) : mj_G K Z pc L (.int x :: st) h :=
  ⟨k.1, k.2.1, fun a b H ls locs r f g => lv_i2l C.ex C.cd d hv (k.2.2 a b H ls locs r f g)⟩
theorem mj_l2i (C : mj_C0 own cc nL fr ini hh K Z) {x : Int64} {v : Int32} (d : decode cc pc = .ok (.l2i, 1)) (hv : x.toInt32 = v) (k : mj_G K Z (pc + 1) L (.int v :: st) h) : mj_G K Z pc L (.long x :: st) h :=
  ⟨k.1, k.2.1, fun a b H ls locs r f g => lv_l2i C.ex C.cd d hv (k.2.2 a b H ls locs r f g)⟩
theorem mj_i2b (C : mj_C0 own cc nL fr ini hh K Z) {x v : Int32} (d : decode cc pc = .ok (.i2b, 1)) (hv : x.toInt8.toInt32 = v) (k : mj_G K Z (pc + 1) L (.int v :: st) h) : mj_G K Z pc L (.int x :: st) h :=
  ⟨k.1, k.2.1, fun a b H ls locs r f g => lv_i2b C.ex C.cd d hv (k.2.2 a b H ls locs r f g)⟩
theorem mj_i2s (C : mj_C0 own cc nL fr ini hh K Z) {x v : Int32} (d : decode cc pc = .ok (.i2s, 1)) (hv : x.toInt16.toInt32 = v) (k : mj_G K Z (pc + 1) L (.int v :: st) h) : mj_G K Z pc L (.int x :: st) h :=
  ⟨k.1, k.2.1, fun a b H ls locs r f g => lv_i2s C.ex C.cd d hv (k.2.2 a b H ls locs r f g)⟩
theorem mj_dup (C : mj_C0 own cc nL fr ini hh K Z) {v : Value} (d : decode cc pc = .ok (.dup, 1)) (hc : v.category = 1) (k : mj_G K Z (pc + 1) L (v :: v :: st) h) : mj_G K Z pc L (v :: st) h :=
  ⟨k.1, k.2.1, fun a b H ls locs r f g => lv_dup C.ex C.cd d ((mj_tv_cat _ _).trans hc) (k.2.2 a b H ls locs r f g)⟩
theorem mj_dup2 (C : mj_C0 own cc nL fr ini hh K Z) {v u : Value} (d : decode cc pc = .ok (.dup2, 1)) (hc : v.category = 1) (hc2 : u.category = 1) (k : mj_G K Z (pc + 1) L (v :: u :: v :: u :: st) h) : mj_G K Z pc L (v :: u :: st) h :=
  ⟨k.1, k.2.1, fun a b H ls locs r f g => lv_dup2_11 C.ex C.cd d ((mj_tv_cat _ _).trans hc) ((mj_tv_cat _ _).trans hc2) (k.2.2 a b H ls locs r f g)⟩
theorem mj_pop (C : mj_C0 own cc nL fr ini hh K Z) {v : Value} (d : decode cc pc = .ok (.pop, 1)) (hc : v.category = 1) (k : mj_G K Z (pc + 1) L (st) h) : mj_G K Z pc L (v :: st) h :=
  ⟨k.1, k.2.1, fun a b H ls locs r f g => lv_pop C.ex C.cd d ((mj_tv_cat _ _).trans hc) (k.2.2 a b H ls locs r f g)⟩
theorem mj_if_eq (C : mj_C0 own cc nL fr ini hh K Z) {x : Int32} {off : Int} {tgt : Nat} (d : decode cc pc = .ok (.ifCond .eq off, 3)) (ht : (pc : Int) + off = (tgt : Int)) (k : mj_G K Z (if x = 0 then tgt else pc + 3) L st h) : mj_G K Z pc L (.int x :: st) h := by
  by_cases hp : x = 0
  · rw [if_pos hp] at k
    exact ⟨k.1, k.2.1, fun a b H ls locs r f g => lv_if_eq C.ex C.cd d ht (fun _ => k.2.2 a b H ls locs r f g) (fun q => absurd hp q)⟩
  · rw [if_neg hp] at k
    exact ⟨k.1, k.2.1, fun a b H ls locs r f g => lv_if_eq C.ex C.cd d ht (fun q => absurd q hp) (fun _ => k.2.2 a b H ls locs r f g)⟩
theorem mj_icmp_eq (C : mj_C0 own cc nL fr ini hh K Z) {x y : Int32} {off : Int} {tgt : Nat} (d : decode cc pc = .ok (.if_icmp .eq off, 3)) (ht : (pc : Int) + off = (tgt : Int)) (k : mj_G K Z (if x = y then tgt else pc + 3) L st h) : mj_G K Z pc L (.int y :: .int x :: st) h := by
  by_cases hp : x = y
  · rw [if_pos hp] at k
    exact ⟨k.1, k.2.1, fun a b H ls locs r f g => lv_icmp_eq C.ex C.cd d ht (fun _ => k.2.2 a b H ls locs r f g) (fun q => absurd hp q)⟩
  · rw [if_neg hp] at k
    exact ⟨k.1, k.2.1, fun a b H ls locs r f g => lv_icmp_eq C.ex C.cd d ht (fun q => absurd q hp) (fun _ => k.2.2 a b H ls locs r f g)⟩
theorem mj_if_ne (C : mj_C0 own cc nL fr ini hh K Z) {x : Int32} {off : Int} {tgt : Nat} (d : decode cc pc = .ok (.ifCond .ne off, 3)) (ht : (pc : Int) + off = (tgt : Int)) (k : mj_G K Z (if ¬ x = 0 then tgt else pc + 3) L st h) : mj_G K Z pc L (.int x :: st) h := by
  by_cases hp : ¬ x = 0
  · rw [if_pos hp] at k
    exact ⟨k.1, k.2.1, fun a b H ls locs r f g => lv_if_ne C.ex C.cd d ht (fun _ => k.2.2 a b H ls locs r f g) (fun q => absurd q hp)⟩
  · rw [if_neg hp] at k
    exact ⟨k.1, k.2.1, fun a b H ls locs r f g => lv_if_ne C.ex C.cd d ht (fun q => absurd q hp) (fun _ => k.2.2 a b H ls locs r f g)⟩
theorem mj_icmp_ne (C : mj_C0 own cc nL fr ini hh K Z) {x y : Int32} {off : Int} {tgt : Nat} (d : decode cc pc = .ok (.if_icmp .ne off, 3)) (ht : (pc : Int) + off = (tgt : Int)) (k : mj_G K Z (if ¬ x = y then tgt else pc + 3) L st h) : mj_G K Z pc L (.int y :: .int x :: st) h := by
  by_cases hp : ¬ x = y
  · rw [if_pos hp] at k
    exact ⟨k.1, k.2.1, fun a b H ls locs r f g => lv_icmp_ne C.ex C.cd d ht (fun _ => k.2.2 a b H ls locs r f g) (fun q => absurd q hp)⟩
  · rw [if_neg hp] at k
    exact ⟨k.1, k.2.1, fun a b H ls locs r f g => lv_icmp_ne C.ex C.cd d ht (fun q => absurd q hp) (fun _ => k.2.2 a b H ls locs r f g)⟩
theorem mj_if_lt (C : mj_C0 own cc nL fr ini hh K Z) {x : Int32} {off : Int} {tgt : Nat} (d : decode cc pc = .ok (.ifCond .lt off, 3)) (ht : (pc : Int) + off = (tgt : Int)) (k : mj_G K Z (if x < 0 then tgt else pc + 3) L st h) : mj_G K Z pc L (.int x :: st) h := by
  by_cases hp : x < 0
  · rw [if_pos hp] at k
    exact ⟨k.1, k.2.1, fun a b H ls locs r f g => lv_if_lt C.ex C.cd d ht (fun _ => k.2.2 a b H ls locs r f g) (fun q => absurd hp q)⟩
  · rw [if_neg hp] at k
    exact ⟨k.1, k.2.1, fun a b H ls locs r f g => lv_if_lt C.ex C.cd d ht (fun q => absurd q hp) (fun _ => k.2.2 a b H ls locs r f g)⟩
theorem mj_icmp_lt (C : mj_C0 own cc nL fr ini hh K Z) {x y : Int32} {off : Int} {tgt : Nat} (d : decode cc pc = .ok (.if_icmp .lt off, 3)) (ht : (pc : Int) + off = (tgt : Int)) (k : mj_G K Z (if x < y then tgt else pc + 3) L st h) : mj_G K Z pc L (.int y :: .int x :: st) h := by
  by_cases hp : x < y
  · rw [if_pos hp] at k
    exact ⟨k.1, k.2.1, fun a b H ls locs r f g => lv_icmp_lt C.ex C.cd d ht (fun _ => k.2.2 a b H ls locs r f g) (fun q => absurd hp q)⟩
  · rw [if_neg hp] at k
    exact ⟨k.1, k.2.1, fun a b H ls locs r f g => lv_icmp_lt C.ex C.cd d ht (fun q => absurd q hp) (fun _ => k.2.2 a b H ls locs r f g)⟩
theorem mj_if_ge (C : mj_C0 own cc nL fr ini hh K Z) {x : Int32} {off : Int} {tgt : Nat} (d : decode cc pc = .ok (.ifCond .ge off, 3)) (ht : (pc : Int) + off = (tgt : Int)) (k : mj_G K Z (if 0 ≤ x then tgt else pc + 3) L st h) : mj_G K Z pc L (.int x :: st) h := by
  by_cases hp : 0 ≤ x
  · rw [if_pos hp] at k
    exact ⟨k.1, k.2.1, fun a b H ls locs r f g => lv_if_ge C.ex C.cd d ht (fun _ => k.2.2 a b H ls locs r f g) (fun q => absurd hp q)⟩
  · rw [if_neg hp] at k
    exact ⟨k.1, k.2.1, fun a b H ls locs r f g => lv_if_ge C.ex C.cd d ht (fun q => absurd q hp) (fun _ => k.2.2 a b H ls locs r f g)⟩
theorem mj_icmp_ge (C : mj_C0 own cc nL fr ini hh K Z) {x y : Int32} {off : Int} {tgt : Nat} (d : decode cc pc = .ok (.if_icmp .ge off, 3)) (ht : (pc : Int) + off = (tgt : Int)) (k : mj_G K Z (if y ≤ x then tgt else pc + 3) L st h) : mj_G K Z pc L (.int y :: .int x :: st) h := by
  by_cases hp : y ≤ x
  · rw [if_pos hp] at k
    exact ⟨k.1, k.2.1, fun a b H ls locs r f g => lv_icmp_ge C.ex C.cd d ht (fun _ => k.2.2 a b H ls locs r f g) (fun q => absurd hp q)⟩
  · rw [if_neg hp] at k
    exact ⟨k.1, k.2.1, fun a b H ls locs r f g => lv_icmp_ge C.ex C.cd d ht (fun q => absurd q hp) (fun _ => k.2.2 a b H ls locs r f g)⟩
theorem mj_if_gt (C : mj_C0 own cc nL fr ini hh K Z) {x : Int32} {off : Int} {tgt : Nat} (d : decode cc pc = .ok (.ifCond .gt off, 3)) (ht : (pc : Int) + off = (tgt : Int)) (k : mj_G K Z (if 0 < x then tgt else pc + 3) L st h) : mj_G K Z pc L (.int x :: st) h := by
  by_cases hp : 0 < x
  · rw [if_pos hp] at k
    exact ⟨k.1, k.2.1, fun a b H ls locs r f g => lv_if_gt C.ex C.cd d ht (fun _ => k.2.2 a b H ls locs r f g) (fun q => absurd hp q)⟩
  · rw [if_neg hp] at k
    exact ⟨k.1, k.2.1, fun a b H ls locs r f g => lv_if_gt C.ex C.cd d ht (fun q => absurd q hp) (fun _ => k.2.2 a b H ls locs r f g)⟩
theorem mj_icmp_gt (C : mj_C0 own cc nL fr ini hh K Z) {x y : Int32} {off : Int} {tgt : Nat} (d : decode cc pc = .ok (.if_icmp .gt off, 3)) (ht : (pc : Int) + off = (tgt : Int)) (k : mj_G K Z (if y < x then tgt else pc + 3) L st h) : mj_G K Z pc L (.int y :: .int x :: st) h := by
  by_cases hp : y < x
  · rw [if_pos hp] at k
    exact ⟨k.1, k.2.1, fun a b H ls locs r f g => lv_icmp_gt C.ex C.cd d ht (fun _ => k.2.2 a b H ls locs r f g) (fun q => absurd hp q)⟩
  · rw [if_neg hp] at k
    exact ⟨k.1, k.2.1, fun a b H ls locs r f g => lv_icmp_gt C.ex C.cd d ht (fun q => absurd q hp) (fun _ => k.2.2 a b H ls locs r f g)⟩
theorem mj_if_le (C : mj_C0 own cc nL fr ini hh K Z) {x : Int32} {off : Int} {tgt : Nat} (d : decode cc pc = .ok (.ifCond .le off, 3)) (ht : (pc : Int) + off = (tgt : Int)) (k : mj_G K Z (if x ≤ 0 then tgt else pc + 3) L st h) : mj_G K Z pc L (.int x :: st) h := by
  by_cases hp : x ≤ 0
  · rw [if_pos hp] at k
    exact ⟨k.1, k.2.1, fun a b H ls locs r f g => lv_if_le C.ex C.cd d ht (fun _ => k.2.2 a b H ls locs r f g) (fun q => absurd hp q)⟩
  · rw [if_neg hp] at k
    exact ⟨k.1, k.2.1, fun a b H ls locs r f g => lv_if_le C.ex C.cd d ht (fun q => absurd q hp) (fun _ => k.2.2 a b H ls locs r f g)⟩
theorem mj_icmp_le (C : mj_C0 own cc nL fr ini hh K Z) {x y : Int32} {off : Int} {tgt : Nat} (d : decode cc pc = .ok (.if_icmp .le off, 3)) (ht : (pc : Int) + off = (tgt : Int)) (k : mj_G K Z (if x ≤ y then tgt else pc + 3) L st h) : mj_G K Z pc L (.int y :: .int x :: st) h := by
  by_cases hp : x ≤ y
  · rw [if_pos hp] at k
    exact ⟨k.1, k.2.1, fun a b H ls locs r f g => lv_icmp_le C.ex C.cd d ht (fun _ => k.2.2 a b H ls locs r f g) (fun q => absurd hp q)⟩
  · rw [if_neg hp] at k
    exact ⟨k.1, k.2.1, fun a b H ls locs r f g => lv_icmp_le C.ex C.cd d ht (fun q => absurd q hp) (fun _ => k.2.2 a b H ls locs r f g)⟩
theorem mj_goto (C : mj_C0 own cc nL fr ini hh K Z) {off : Int} {tgt : Nat} (d : decode cc pc = .ok (.goto off, 3)) (ht : (pc : Int) + off = (tgt : Int)) (k : mj_G K Z tgt L st h) : mj_G K Z pc L st h :=
  ⟨k.1, k.2.1, fun a b H ls locs r f g => lv_goto C.ex C.cd d ht (k.2.2 a b H ls locs r f g)⟩
theorem mj_ifnonnull (C : mj_C0 own cc nL fr ini hh K Z) {x : Option Nat} {off : Int} {tgt : Nat} (d : decode cc pc = .ok (.ifnonnull off, 3)) (ht : (pc : Int) + off = (tgt : Int)) (k : mj_G K Z (if x = none then pc + 3 else tgt) L st h) : mj_G K Z pc L (va_rf x :: st) h := by
  cases x with
  | none => exact ⟨k.1, k.2.1, fun a b H ls locs r f g => lv_ifnonnullN C.ex C.cd d (k.2.2 a b H ls locs r f g)⟩
  | some y => exact ⟨k.1, k.2.1, fun a b H ls locs r f g => lv_ifnonnull C.ex C.cd d ht (k.2.2 a b H ls locs r f g)⟩
theorem mj_acmp_eq (C : mj_C0 own cc nL fr ini hh K Z) {x y : Nat} {off : Int} {tgt : Nat} (hx : 27 ≤ x) (hy : 27 ≤ y) (d : decode cc pc = .ok (.if_acmp .eq off, 3)) (ht : (pc : Int) + off = (tgt : Int)) (k : mj_G K Z (if x = y then tgt else pc + 3) L st h) : mj_G K Z pc L (.ref y :: .ref x :: st) h := by
  have e : ∀ q, 27 ≤ q → mj_t Z q = Z.2.2.1 + (q - 27) := fun q hq => mj_tr_made hq
  by_cases hp : x = y
  · rw [if_pos hp] at k
    exact ⟨k.1, k.2.1, fun a b H ls locs r f g => lv_acmp_eq (rx := some (mj_t Z x)) (ry := some (mj_t Z y)) C.ex C.cd d ht (fun _ => k.2.2 a b H ls locs r f g) (fun q => absurd (by rw [hp]) q)⟩
  · rw [if_neg hp] at k
    exact ⟨k.1, k.2.1, fun a b H ls locs r f g => lv_acmp_eq (rx := some (mj_t Z x)) (ry := some (mj_t Z y)) C.ex C.cd d ht (fun q => absurd (by have q2 := Option.some.inj q; rw [e x hx, e y hy] at q2; omega) hp) (fun _ => k.2.2 a b H ls locs r f g)⟩
theorem mj_tableIn (C : mj_C0 own cc nL fr ini hh K Z) {dflt lo hi : Int} {offs : Array Int} {len : Nat} {x : Int32} {off : Int} {tgt : Nat} (d : decode cc pc = .ok (.tableswitch dflt lo hi offs, len)) (h1 : ¬ x.toInt < lo) (h2 : ¬ hi < x.toInt) (ho : offs[(x.toInt - lo).toNat]? = some off) (ht : (pc : Int) + off = (tgt : Int)) (k : mj_G K Z tgt L st h) : mj_G K Z pc L (.int x :: st) h :=
  ⟨k.1, k.2.1, fun a b H ls locs r f g => lv_tableIn C.ex C.cd d h1 h2 ho ht (k.2.2 a b H ls locs r f g)⟩
theorem mj_tableOut (C : mj_C0 own cc nL fr ini hh K Z) {dflt lo hi : Int} {offs : Array Int} {len : Nat} {x : Int32} {tgt : Nat} (d : decode cc pc = .ok (.tableswitch dflt lo hi offs, len)) (hh : x.toInt < lo ∨ hi < x.toInt) (ht : (pc : Int) + dflt = (tgt : Int)) (k : mj_G K Z tgt L st h) : mj_G K Z pc L (.int x :: st) h :=
  ⟨k.1, k.2.1, fun a b H ls locs r f g => lv_tableOut C.ex C.cd d hh ht (k.2.2 a b H ls locs r f g)⟩
end MjOps
