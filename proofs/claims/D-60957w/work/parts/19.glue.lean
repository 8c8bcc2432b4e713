/-! glue: Object's constructor, exceptions' constructors -/
def mx_oi : mj_X mj_F := fun σ => match (σ.1[0]? : Option (Option Value)) with
  | some (some (.ref _)) => .ok none σ
  | _ => .error none σ
theorem r_oi {μ : mj_I} {bk cn idx : Nat} {k0 : Fin 4} (q1 : Jvm.Cond.methodLink μ.1 idx Lib.objectInit ∈ lw_all) (hfr : 1 ≤ μ.2.2.2.1) (d0 : decode μ.2.1 0 = .ok (.aload_n k0, 1)) (hk : (k0 : Nat) = 0) (d1 : decode μ.2.1 1 = .ok (.invokespecial idx, 3)) : mj_Sm μ 0 4 bk cn mx_oi := fun K Z C L h => by
  unfold mx_oi
  dsimp only
  split
  · rename_i x hx
    exact fun k => mj_aload_n C d0 hk (x := some x) hx (mj_objInit C q1 q139 q140 hfr d1 k)
  · trivial
theorem mj_neI : Jvm.Cond.methodLinkNest RX1 432 yX3_init RX1 ∈ mj_nest := List.mem_cons_self
def mj_nms : List String := ["java/lang/RuntimeException", "java/lang/Exception"]
theorem mj_at_of {L : List Cond} (ps : List Nat) (h : L.filter goodWord = ps.filterMap (fun i => lw_tbl[i]?)) (h2 : (L.filter (fun w => !goodWord w)).all (fun w => decide (w ∈ mj_nest)) = true) : ∀ w ∈ L, w ∈ lw_all ∨ w ∈ mj_nest := by
  intro w hw
  by_cases g : goodWord w = true
  · have h1 : w ∈ L.filter goodWord := List.mem_filter.mpr ⟨hw, g⟩
    rw [h] at h1
    obtain ⟨i, -, hi⟩ := List.mem_filterMap.mp h1
    exact Or.inl (lw_w i hi g)
  · refine Or.inr (of_decide_eq_true (List.all_eq_true.mp h2 w (List.mem_filter.mpr ⟨hw, ?_⟩)))
    simpa using g
theorem mj_cov {a b p : Nat} {hh : List (Nat × Nat × Nat × Nat)} (hall : ∀ z ∈ hh, z.1 = a ∧ z.2.1 = b) (hp : (!(decide (a ≤ p) && decide (p < b))) = true) {x : ExceptionTableEntry} (hx : x ∈ tableOf hh) : covers x p = false := by
  obtain ⟨z, hz, rfl⟩ := List.mem_map.mp hx
  obtain ⟨h1, h2⟩ := hall z hz
  subst h1
  subst h2
  simp [covers] at hp ⊢
  omega
set_option maxRecDepth 100000 in
theorem mj_at_J3 : ∀ w ∈ vx_at0 RX1 41 RJ3 mj_nms, w ∈ lw_all ∨ w ∈ mj_nest := mj_at_of [121, 255, 264, 269, 272, 274, 256, 257, 139, 140, 258, 263, 270, 287, 245, 288, 247, 289, 249, 259, 261, 251, 276, 277, 278, 279, 279, 280, 281, 282, 282, 283, 284, 256, 275, 234, 242, 243, 244, 246, 248, 250, 254, 253, 252] (by decide +kernel) (by decide +kernel)
set_option maxRecDepth 100000 in
theorem mj_ot_J3 : ∀ w ∈ Cond.classLink RX1 39 RJ3 :: Cond.initialized RJ3 :: vx_at0 RX1 41 RJ3 mj_nms, vx_ot w = true := by decide +kernel
set_option maxRecDepth 100000 in
theorem mj_at_J4 : ∀ w ∈ vx_at0 RX1 44 RJ4 mj_nms, w ∈ lw_all ∨ w ∈ mj_nest := mj_at_of [121, 255, 264, 269, 272, 274, 256, 257, 139, 140, 258, 263, 270, 287, 245, 288, 247, 289, 249, 259, 261, 251, 316, 317, 318, 279, 279, 280, 281, 282, 282, 283, 284, 256, 315, 307, 309, 267, 310, 311, 312, 313, 254, 253, 314] (by decide +kernel) (by decide +kernel)
set_option maxRecDepth 100000 in
theorem mj_ot_J4 : ∀ w ∈ Cond.classLink RX1 42 RJ4 :: Cond.initialized RJ4 :: vx_at0 RX1 44 RJ4 mj_nms, vx_ot w = true := by decide +kernel
set_option maxRecDepth 100000 in
theorem mj_at_J9 : ∀ w ∈ vx_at0 RX1 35 RJ9 mj_nms, w ∈ lw_all ∨ w ∈ mj_nest := mj_at_of [121, 255, 264, 269, 272, 274, 256, 257, 139, 140, 258, 263, 270, 287, 245, 288, 247, 289, 249, 259, 261, 251, 805, 806, 807, 279, 279, 280, 281, 282, 282, 283, 284, 256, 804, 796, 798, 268, 799, 800, 801, 802, 254, 253, 803] (by decide +kernel) (by decide +kernel)
set_option maxRecDepth 100000 in
theorem mj_ot_J9 : ∀ w ∈ Cond.classLink RX1 33 RJ9 :: Cond.initialized RJ9 :: vx_at0 RX1 35 RJ9 mj_nms, vx_ot w = true := by decide +kernel
