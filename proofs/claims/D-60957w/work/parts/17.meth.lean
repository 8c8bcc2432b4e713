/-! a method's contract out of its body -/
section MjMeth
variable {own : String} {cc : ByteArray} {nL fr : Nat} {ini : Bool} {hh : List (Nat × Nat × Nat × Nat)} {ret : Option FieldType}
theorem mj_GR_of {K : mj_M} {Z : mj_Z} {r : Option Value} {h' : mj_H} {XC : String → State → State → Prop} (C : mj_C0 own cc nL fr ini hh K Z) (hr : (kmt K).sig.returnType = ret) (hc : (kR K).cells = h'.2.1 - kn K) (hs : (kR K).slots = h'.2.2 - ksl K)
    (hQ : kQ K = vx_MQ (kb K) (mj_Qc Z r h') XC (ka K) (ks K) (h'.2.1 - kn K) (h'.2.2 - ksl K) (mj_A Z.2.2.1)) (hok : mj_rok ret r = true) : mj_GR K Z r h' := by
  intro pc L d
  rw [C.cd] at d
  refine ⟨by omega, by omega, fun A B H ls locs rep f g => ?_⟩
  show W _ _ _ _ _ _ _ _ _ _ H locs _ _ (kQ K) _
  rw [hQ]
  refine vx_ret ?_
  have hq : ∀ o : Outcome, o = .returned (r.map (mj_tv (mj_t Z))) → ∀ t : State, t.heap = H → (ks K).WarmedH t.vm → mj_Qc Z r h' (ka K) (ks K) o t := fun o ho t ht hW => ⟨ho, by rw [ht]; exact rep.moved hW.alike, f.F ht⟩
  have hlk := C.lk
  cases r with
  | none =>
    cases ret with
    | none => exact W.vret C.ex C.cd hr (hq _ rfl) f.2.2 d hlk
    | some ty => cases ty <;> simp [mj_rok] at hok
  | some v =>
    cases ret with
    | none => cases v <;> simp [mj_rok] at hok
    | some ty =>
      cases v with
      | int x =>
        have hn : narrow ty (.int x) = .int x := by
          cases ty with
          | int => rfl
          | boolean =>
            simp only [mj_rok, Bool.or_eq_true, beq_iff_eq] at hok
            rcases hok with rfl | rfl <;> rfl
          | _ => simp [mj_rok] at hok
        exact W.zret C.ex C.cd hr hn (hq _ rfl) f.2.2 d hlk
      | long x =>
        cases ty with
        | long => exact W.lret C.ex C.cd hr (hq _ rfl) f.2.2 d hlk
        | _ => simp [mj_rok] at hok
      | ref a =>
        cases ty with
        | object n => exact W.aret C.ex C.cd hr (Or.inl ⟨n, rfl⟩) (Or.inr ⟨_, rfl⟩) (hq _ rfl) f.2.2 d hlk
        | array n => exact W.aret C.ex C.cd hr (Or.inr ⟨n, rfl⟩) (Or.inr ⟨_, rfl⟩) (hq _ rfl) f.2.2 d hlk
        | _ => simp [mj_rok] at hok
      | _ => cases ty <;> simp [mj_rok] at hok
theorem mj_GX_of {K : mj_M} {Z : mj_Z} {ci : Nat} {h' : mj_H} {Qc : Array Value → State → Outcome → State → Prop} (C : mj_C0 own cc nL fr ini hh K Z) (hc : (kR K).cells = h'.2.1 - kn K) (hs : (kR K).slots = h'.2.2 - ksl K)
    (hQ : kQ K = vx_MQ (kb K) Qc (mj_Xc Z ci h') (ka K) (ks K) (h'.2.1 - kn K) (h'.2.2 - ksl K) (mj_A Z.2.2.1)) {p : Nat} (hout : ∀ x ∈ tableOf hh, covers x p = false) (L : mj_L) : mj_GX K Z p L h' ci := by
  refine ⟨by omega, by omega, fun A B H ls locs rest q ce rep f g g1 g2 g3 => ?_⟩
  rw [hQ]
  exact vx_out (by rw [C.tb]; exact hout) C.lk g1 g2 g3 (fun t ht hal => ⟨rfl, by rw [ht]; exact rep.moved hal, f.F ht⟩) f.2.2 (Nat.le_refl _) (Nat.le_refl _)
theorem mj_sl_args {t : Nat → Nat} : ∀ (av : List Value) (o k : Nat) (v : Value), (mj_sl av)[k]? = some (some v) → (o + k, mj_tv t v) ∈ lv_args o (av.map (mj_tv t))
  | [], o, k, v, h => by simp [mj_sl] at h
  | x :: av, o, k, v, h => by
    have ih := mj_sl_args (t := t) av
    unfold mj_sl at h
    rw [List.flatMap_cons] at h
    rw [List.map_cons]
    unfold lv_args
    rw [mj_tv_cat]
    by_cases hc : x.category = 2
    · rw [if_pos hc] at h ⊢
      match k, h with
      | 0, h =>
        cases h
        exact List.mem_cons_self
      | 1, h => cases h
      | k + 2, h =>
        refine List.mem_cons_of_mem _ ?_
        have h2 := ih (o + 2) k v h
        rwa [show o + (k + 2) = o + 2 + k by omega]
    · rw [if_neg hc] at h ⊢
      match k, h with
      | 0, h =>
        cases h
        exact List.mem_cons_self
      | k + 1, h =>
        refine List.mem_cons_of_mem _ ?_
        have h2 := ih (o + 1) k v h
        rwa [show o + (k + 1) = o + 1 + k by omega]
theorem mj_sl_len {t : Nat → Nat} (av : List Value) : (lg_sl (av.map (mj_tv t))).length = (mj_sl av).length := by
  unfold lg_sl mj_sl
  induction av with
  | nil => rfl
  | cons x av ih =>
    rw [List.map_cons, List.flatMap_cons, List.flatMap_cons, List.length_append, List.length_append, ih, mj_tv_cat]
    by_cases hc : x.category = 2
    · rw [if_pos hc, if_pos hc]; rfl
    · rw [if_neg hc, if_neg hc]; rfl
theorem mj_entry {t : Nat → Nat} {av : List Value} {ls : Array Slot} (h : lv_has ls nL (lv_args 0 (av.map (mj_tv t)))) : mj_Lo t nL (mj_L0 nL av) ls := by
  refine ⟨h.1, h.2.1, fun k v hk => ?_⟩
  unfold mj_L0 at hk
  by_cases hl : k < (mj_sl av).length
  · rw [List.getElem?_append_left hl] at hk
    have h1 := h.2.2 _ (mj_sl_args (t := t) av 0 k v hk)
    dsimp only at h1
    rwa [Nat.zero_add] at h1
  · rw [List.getElem?_append_right (by omega), List.getElem?_replicate] at hk
    split at hk <;> cases hk
theorem mj_enter {y : MethodName} {l : Launch} {rm : Room} {Z : mj_Z} {av : List Value} {h : mj_H} {Qc : Array Value → State → Outcome → State → Prop} {XC : String → State → State → Prop} {mc ms : Nat} {free : Addr → Prop} (hcls : y.cls = own) (hy : plainName y.cls = true) (hini : ini = true → y.name = "<init>") (hl : l.stackTraces = false) (hfr : rm.frames = fr) (hlo : rm.locals = 100 * fr) (hlen : (mj_sl av).length ≤ nL)
    (k : ∀ K, mj_C0 own cc nL fr ini [] K Z → kR K = rm → kn K = h.2.1 → ksl K = h.2.2 → (kmt K).sig.returnType = ret → kQ K = vx_MQ (kb K) Qc XC (ka K) (ks K) mc ms free → mj_G K Z 0 (mj_L0 nL av) [] h) : vx_Met l y (ws_ y cc nL ret) rm (mj_Pc Z av h) Qc XC mc ms free := by
  refine vx_ofW (cc := cc) (maxL := nL) (ret := ret) hy rfl ?_
  intro p e s m args below meth c s₁ B hml hno hv
  obtain ⟨rfl, hw, hrep⟩ := hv
  have hts := atoms_spec (ws := ws_ y cc nL ret) B.pre
  have hts : ∀ w ∈ lw_all, w.before _ s = true := fun w h => hts w (List.mem_cons_of_mem _ h)
  have hown : s.vm.findClass own = some m.cls := hcls ▸ findClass_of_methodNamed B.named
  have htb : c.exceptionTable.toList = [] := by
    cases he : c.exceptionTable.toList with
    | nil => rfl
    | cons x l => exact (hno x (by rw [he]; exact List.mem_cons_self)).elim
  have C : mj_C0 own cc nL fr ini [] (p, l, e, rm, s, m, (av.map (mj_tv (mj_t Z))).toArray, below, meth, c, vx_MQ below Qc XC (av.map (mj_tv (mj_t Z))).toArray s mc ms free, h.2.1, h.2.2) Z :=
    ⟨B.exec, B.bytes, hml, hown, hts, hw, hrep.1, hrep.2.1, by show fr ≤ rm.frames; omega, by show 100 * fr ≤ rm.locals; omega, hl, B.notSynchronized, fun hi => by rw [← hini hi]; exact (name_of_methodNamed B.named B.method).1, htb⟩
  have G := k _ C rfl rfl rfl B.returns rfl
  have hen := lv_entry (av.map (mj_tv (mj_t Z))) (n := nL) (by rw [mj_sl_len]; exact hlen)
  rw [lg_entry_eq]
  have k2 := G.2.2 (Nat.le_refl _) (Nat.le_refl _) s.heap _ [] hrep va_S.rf (by show mj_Lo _ c.maxLocals _ _; rw [hml]; exact mj_entry hen)
  simp only [Nat.sub_self] at k2
  exact k2
theorem mj_enterW {y : MethodName} {l : Launch} {rm : Room} {Z : mj_Z} {av : List Value} {h : mj_H} {Qc : Array Value → State → Outcome → State → Prop} {XC : String → State → State → Prop} {mc ms : Nat} {free : Addr → Prop} (hcls : y.cls = own) (hy : plainName y.cls = true) (hini : ini = true → y.name = "<init>") (hl : l.stackTraces = false) (hfr : rm.frames = fr) (hlo : rm.locals = 100 * fr) (hlen : (mj_sl av).length ≤ nL)
    (k : ∀ K, mj_C0 own cc nL fr ini hh K Z → kR K = rm → kn K = h.2.1 → ksl K = h.2.2 → (kmt K).sig.returnType = ret → kQ K = vx_MQ (kb K) Qc XC (ka K) (ks K) mc ms free → mj_G K Z 0 (mj_L0 nL av) [] h) : vx_Met l y (wsW_ y cc nL ret hh) rm (mj_Pc Z av h) Qc XC mc ms free := by
  refine vx_ofWH (cc := cc) (maxL := nL) (ret := ret) hy rfl ?_
  intro p e s m args below meth c s₁ B hml hv
  obtain ⟨rfl, hw, hrep⟩ := hv
  have hts0 := atoms_spec (ws := wsW_ y cc nL ret hh) B.pre
  have hts : ∀ w ∈ lw_all, w.before _ s = true := fun w h => hts0 w (List.mem_cons_of_mem _ h)
  have hown : s.vm.findClass own = some m.cls := hcls ▸ findClass_of_methodNamed B.named
  have htb : c.exceptionTable.toList = tableOf hh := vx_table (x := y) B (hts0 _ List.mem_cons_self)
  have C : mj_C0 own cc nL fr ini hh (p, l, e, rm, s, m, (av.map (mj_tv (mj_t Z))).toArray, below, meth, c, vx_MQ below Qc XC (av.map (mj_tv (mj_t Z))).toArray s mc ms free, h.2.1, h.2.2) Z :=
    ⟨B.exec, B.bytes, hml, hown, hts, hw, hrep.1, hrep.2.1, by show fr ≤ rm.frames; omega, by show 100 * fr ≤ rm.locals; omega, hl, B.notSynchronized, fun hi => by rw [← hini hi]; exact (name_of_methodNamed B.named B.method).1, htb⟩
  have G := k _ C rfl rfl rfl B.returns rfl
  have hen := lv_entry (av.map (mj_tv (mj_t Z))) (n := nL) (by rw [mj_sl_len]; exact hlen)
  rw [lg_entry_eq]
  have k2 := G.2.2 (Nat.le_refl _) (Nat.le_refl _) s.heap _ [] hrep va_S.rf (by show mj_Lo _ c.maxLocals _ _; rw [hml]; exact mj_entry hen)
  simp only [Nat.sub_self] at k2
  exact k2
/-- the contract, from the rules of the body; rg: where a throw leaves the method -/
theorem mj_snd {y : MethodName} {S : mj_X mj_F} {pE bk cn : Nat} (hcls : y.cls = own) (hy : plainName y.cls = true) (hini : ini = true → y.name = "<init>") (hend : ret = none → decode cc pE = .ok (.return_, 1)) (hb : mj_Sm (own, cc, nL, fr, ini, [], fun _ => true) 0 pE bk cn S) : mj_Snd y (ws_ y cc nL ret) fr (mj_mk ret nL S) := by
  intro l hl Z av h
  unfold mj_mk
  by_cases hlen : (mj_sl av).length ≤ nL
  · rw [if_pos hlen]
    have base : ∀ K, mj_C0 own cc nL fr ini [] K Z → mj_T (own, cc, nL, fr, ini, [], fun _ => true) K Z (S (mj_L0 nL av, h)) (mj_Fw K Z pE bk cn) (mj_G K Z 0 (mj_L0 nL av) [] h) := fun K C => hb K Z C _ _
    cases hS : S (mj_L0 nL av, h) with
    | error e σ =>
      cases e with
      | none => trivial
      | some ci =>
        refine mj_enter hcls hy hini hl rfl rfl hlen fun K C hR hn hs hr hQ => ?_
        have b := base K C
        rw [hS] at b
        exact b fun p _ => mj_GX_of C (by rw [hR, hn]) (by rw [hR, hs]) (by rw [hQ, hn, hs]) (fun x hx => nomatch hx) _
    | ok f σ =>
      cases f with
      | none =>
        dsimp only
        by_cases hret : ret = none
        · rw [if_pos hret]
          refine mj_enter hcls hy hini hl rfl rfl hlen fun K C hR hn hs hr hQ => ?_
          have b := base K C
          rw [hS] at b
          have gr : mj_GR K Z none σ.2 := mj_GR_of C hr (by rw [hR, hn]) (by rw [hR, hs]) (by rw [hQ, hn, hs]) (by rw [hret]; rfl)
          exact b (gr pE σ.1 (by rw [C.cd]; exact hend hret))
        · rw [if_neg hret]; trivial
      | some x =>
        cases x with
        | inr b => trivial
        | inl v =>
          dsimp only
          by_cases hok : mj_rok ret v = true
          · rw [if_pos hok]
            refine mj_enter hcls hy hini hl rfl rfl hlen fun K C hR hn hs hr hQ => ?_
            have b := base K C
            rw [hS] at b
            exact b (mj_GR_of C hr (by rw [hR, hn]) (by rw [hR, hs]) (by rw [hQ, hn, hs]) hok)
          · rw [if_neg hok]; trivial
  · rw [if_neg hlen]; trivial
theorem mj_sndW {y : MethodName} {S : mj_X mj_F} {rg : Nat → Bool} {pE bk cn : Nat} (hcls : y.cls = own) (hy : plainName y.cls = true) (hini : ini = true → y.name = "<init>") (hend : ret = none → decode cc pE = .ok (.return_, 1)) (hrg : ∀ p, rg p = true → ∀ x ∈ tableOf hh, covers x p = false) (hb : mj_Sm (own, cc, nL, fr, ini, hh, rg) 0 pE bk cn S) : mj_Snd y (wsW_ y cc nL ret hh) fr (mj_mk ret nL S) := by
  intro l hl Z av h
  unfold mj_mk
  by_cases hlen : (mj_sl av).length ≤ nL
  · rw [if_pos hlen]
    have base : ∀ K, mj_C0 own cc nL fr ini hh K Z → mj_T (own, cc, nL, fr, ini, hh, rg) K Z (S (mj_L0 nL av, h)) (mj_Fw K Z pE bk cn) (mj_G K Z 0 (mj_L0 nL av) [] h) := fun K C => hb K Z C _ _
    cases hS : S (mj_L0 nL av, h) with
    | error e σ =>
      cases e with
      | none => trivial
      | some ci =>
        refine mj_enterW hcls hy hini hl rfl rfl hlen fun K C hR hn hs hr hQ => ?_
        have b := base K C
        rw [hS] at b
        exact b fun p hp => mj_GX_of C (by rw [hR, hn]) (by rw [hR, hs]) (by rw [hQ, hn, hs]) (hrg p hp) _
    | ok f σ =>
      cases f with
      | none =>
        dsimp only
        by_cases hret : ret = none
        · rw [if_pos hret]
          refine mj_enterW hcls hy hini hl rfl rfl hlen fun K C hR hn hs hr hQ => ?_
          have b := base K C
          rw [hS] at b
          have gr : mj_GR K Z none σ.2 := mj_GR_of C hr (by rw [hR, hn]) (by rw [hR, hs]) (by rw [hQ, hn, hs]) (by rw [hret]; rfl)
          exact b (gr pE σ.1 (by rw [C.cd]; exact hend hret))
        · rw [if_neg hret]; trivial
      | some x =>
        cases x with
        | inr b => trivial
        | inl v =>
          dsimp only
          by_cases hok : mj_rok ret v = true
          · rw [if_pos hok]
            refine mj_enterW hcls hy hini hl rfl rfl hlen fun K C hR hn hs hr hQ => ?_
            have b := base K C
            rw [hS] at b
            exact b (mj_GR_of C hr (by rw [hR, hn]) (by rw [hR, hs]) (by rw [hQ, hn, hs]) hok)
          · rw [if_neg hok]; trivial
  · rw [if_neg hlen]; trivial
end MjMeth
