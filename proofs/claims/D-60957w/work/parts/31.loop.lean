/-! pure: loops by steps -/
def mj_nx (C : mj_X Bool) (S U W : mj_X mj_F) (f : mj_F) (σ : mj_S) : mj_R mj_F := match f with
  | none => mx_seq U W σ
  | some (.inr false) => mx_seq U W σ
  | some (.inr true) => .ok none σ
  | some (.inl v) => .ok (some (.inl v)) σ
/-- one round, then W -/
def mj_rd (C : mj_X Bool) (S U W : mj_X mj_F) (σ : mj_S) : mj_R mj_F := mj_bd (C σ) fun b σ => if b = true then mj_bd (S σ) (mj_nx C S U W) else .ok none σ
theorem wn_succ {C : mj_X Bool} {S U : mj_X mj_F} {n : Nat} : mj_wn C S U (n + 1) = mj_rd C S U (mj_wn C S U n) := by
  funext σ
  show mj_bd (C σ) _ = mj_bd (C σ) _
  congr 1
theorem stk_bd {α β : Type} {r : mj_R α} {f : α → mj_S → mj_R β} (h : ¬ mj_stk (mj_bd r f)) : (∃ a σ, r = .ok a σ ∧ ¬ mj_stk (f a σ)) ∨ ∃ e σ, r = .error (some e) σ := by
  rcases r with ⟨a, σ⟩ | ⟨_ | e, σ⟩
  · exact .inl ⟨a, σ, rfl, h⟩
  · exact absurd trivial h
  · exact .inr ⟨e, σ, rfl⟩
/-- what W does where it comes to an end, W' does -/
def mj_ge (W W' : mj_X mj_F) : Prop := ∀ σ, ¬ mj_stk (W σ) → W' σ = W σ
theorem rd_mono {C : mj_X Bool} {S U W W' : mj_X mj_F} (g : mj_ge W W') : mj_ge (mj_rd C S U W) (mj_rd C S U W') := by
  intro σ hs
  unfold mj_rd at hs ⊢
  rcases stk_bd hs with ⟨b, σ1, e, h1⟩ | ⟨e, σ1, h1⟩
  · rw [e] at hs ⊢
    rw [bd_ok] at hs ⊢
    rw [bd_ok]
    by_cases hb : b = true
    · rw [if_pos hb] at h1 ⊢
      rw [if_pos hb]
      rcases stk_bd h1 with ⟨f, σ2, e2, h2⟩ | ⟨e2, σ2, h2⟩
      · rw [e2, bd_ok, bd_ok]
        have key : ∀ {σ3 : mj_S}, ¬ mj_stk (mx_seq U W σ3) → mx_seq U W' σ3 = mx_seq U W σ3 := by
          intro σ3 h3
          rw [ev_seq] at h3 ⊢
          rw [ev_seq]
          rcases stk_bd h3 with ⟨f4, σ4, e4, h4⟩ | ⟨e4, σ4, h4⟩
          · rw [e4, bd_ok, bd_ok]
            rcases f4 with _ | x
            · exact g σ4 h4
            · rfl
          · rw [h4]
            rfl
        rcases f with _ | v | _ | _
        · exact key h2
        · rfl
        · exact key h2
        · rfl
      · rw [h2]
        rfl
    · rw [if_neg hb, if_neg hb]
  · rw [h1]
    rfl
theorem wn_mono {C : mj_X Bool} {S U : mj_X mj_F} : ∀ n : Nat, mj_ge (mj_wn C S U n) (mj_wn C S U (n + 1))
  | 0 => fun σ hs => absurd trivial hs
  | n + 1 => by
    rw [wn_succ, wn_succ]
    exact rd_mono (wn_mono n)
theorem wn_le {C : mj_X Bool} {S U : mj_X mj_F} {n : Nat} : ∀ m : Nat, mj_ge (mj_wn C S U n) (mj_wn C S U (n + m))
  | 0 => fun _ _ => rfl
  | m + 1 => fun σ hs => by
    have h1 := wn_le m σ hs
    have h2 := wn_mono (C := C) (S := S) (U := U) (n + m) σ (by rw [h1]; exact hs)
    rw [← Nat.add_assoc, h2, h1]
theorem lim_of {C : mj_X Bool} {S U : mj_X mj_F} {n : Nat} {σ : mj_S} (h : ¬ mj_stk (mj_wn C S U n σ)) : mx_loop C S U σ = mj_wn C S U n σ := by
  have hex : ∃ n, ¬ mj_stk (mj_wn C S U n σ) := ⟨n, h⟩
  unfold mx_loop mj_lim
  rw [dif_pos hex]
  have hc := Classical.choose_spec hex
  have h1 := wn_le (C := C) (S := S) (U := U) (n := n) (Classical.choose hex) σ h
  have h2 := wn_le (C := C) (S := S) (U := U) (n := Classical.choose hex) n σ hc
  rw [Nat.add_comm] at h2
  rw [← h1, ← h2]
theorem loop_ge {C : mj_X Bool} {S U : mj_X mj_F} {σ : mj_S} (h : ¬ mj_stk (mx_loop C S U σ)) : ∃ n, ¬ mj_stk (mj_wn C S U n σ) ∧ mx_loop C S U σ = mj_wn C S U n σ := by
  by_cases hex : ∃ n, ¬ mj_stk (mj_wn C S U n σ)
  · obtain ⟨n, hn⟩ := hex
    exact ⟨n, hn, lim_of hn⟩
  · unfold mx_loop mj_lim at h
    rw [dif_neg hex] at h
    exact absurd trivial h
/-- a loop is its first round, then the loop -/
theorem loop_eq {C : mj_X Bool} {S U : mj_X mj_F} {σ : mj_S} {r : mj_R mj_F} (h : mj_rd C S U (mx_loop C S U) σ = r) (hs : ¬ mj_stk r) : mx_loop C S U σ = r := by
  subst h
  unfold mj_rd at hs ⊢
  rcases stk_bd hs with ⟨b, σ1, e, h1⟩ | ⟨e, σ1, h1⟩
  · have key : ∀ {σ3 : mj_S}, ¬ mj_stk (mx_seq U (mx_loop C S U) σ3) → ∃ n, mx_seq U (mj_wn C S U n) σ3 = mx_seq U (mx_loop C S U) σ3 := by
      intro σ3 h3
      rw [ev_seq] at h3 ⊢
      rcases stk_bd h3 with ⟨f4, σ4, e4, h4⟩ | ⟨e4, σ4, h4⟩
      · rw [e4, bd_ok]
        rcases f4 with _ | x
        · obtain ⟨n, hn, en⟩ := loop_ge h4
          refine ⟨n, ?_⟩
          rw [ev_seq, e4, bd_ok]
          exact en.symm
        · exact ⟨0, by rw [ev_seq, e4, bd_ok]; rfl⟩
      · exact ⟨0, by rw [ev_seq, h4]; rfl⟩
    rw [e, bd_ok]
    by_cases hb : b = true
    · rw [if_pos hb] at h1 ⊢
      rcases stk_bd h1 with ⟨f, σ2, e2, h2⟩ | ⟨e2, σ2, h2⟩
      · rw [e2, bd_ok]
        have go : ∀ {r : mj_R mj_F} (n : Nat), mj_wn C S U (n + 1) σ = r → ¬ mj_stk r → mx_loop C S U σ = r := by
          intro r n hr hsr
          rw [← hr] at hsr ⊢
          exact lim_of hsr
        rcases f with _ | v | _ | _
        · obtain ⟨n, hn⟩ := key h2
          refine go n ?_ h2
          rw [wn_succ, mj_rd, e, bd_ok, if_pos hb, e2, bd_ok]
          exact hn
        · refine go 0 ?_ h2
          rw [wn_succ, mj_rd, e, bd_ok, if_pos hb, e2, bd_ok]
          rfl
        · obtain ⟨n, hn⟩ := key h2
          refine go n ?_ h2
          rw [wn_succ, mj_rd, e, bd_ok, if_pos hb, e2, bd_ok]
          exact hn
        · refine go 0 ?_ h2
          rw [wn_succ, mj_rd, e, bd_ok, if_pos hb, e2, bd_ok]
          rfl
      · rw [h2, bd_er]
        have e3 : mj_wn C S U 1 σ = .error (some e2) σ2 := by
          rw [wn_succ, mj_rd, e, bd_ok, if_pos hb, h2]
          rfl
        rw [lim_of (n := 1) (by rw [e3]; exact id), e3]
    · rw [if_neg hb]
      have e3 : mj_wn C S U 1 σ = .ok none σ1 := by
        rw [wn_succ, mj_rd, e, bd_ok, if_neg hb]
      rw [lim_of (n := 1) (by rw [e3]; exact id), e3]
  · rw [h1, bd_er]
    have e3 : mj_wn C S U 1 σ = .error (some e) σ1 := by
      rw [wn_succ, mj_rd, h1]
      rfl
    rw [lim_of (n := 1) (by rw [e3]; exact id), e3]
theorem rd_f {C : mj_X Bool} {S U W : mj_X mj_F} {σ σ1 : mj_S} (h : C σ = .ok false σ1) : mj_rd C S U W σ = .ok none σ1 := by
  rw [mj_rd, h]
  rfl
theorem nx_n {C : mj_X Bool} {S U W : mj_X mj_F} {σ : mj_S} : mj_nx C S U W none σ = mx_seq U W σ := rfl
theorem nx_c {C : mj_X Bool} {S U W : mj_X mj_F} {σ : mj_S} : mj_nx C S U W (some (.inr false)) σ = mx_seq U W σ := rfl
theorem nx_b {C : mj_X Bool} {S U W : mj_X mj_F} {σ : mj_S} : mj_nx C S U W (some (.inr true)) σ = .ok none σ := rfl
theorem nx_v {C : mj_X Bool} {S U W : mj_X mj_F} {v : Option Value} {σ : mj_S} : mj_nx C S U W (some (.inl v)) σ = .ok (some (.inl v)) σ := rfl
/-- a loop over states: n rounds, then the end -/
theorem loop_run {C : mj_X Bool} {S U : mj_X mj_F} {r : mj_R mj_F} (st : Nat → mj_S) (n : Nat) (hs : ¬ mj_stk r) (step : ∀ k, k < n → ∀ W : mj_X mj_F, mj_rd C S U W (st k) = W (st (k + 1))) (fin : mj_rd C S U (mx_loop C S U) (st n) = r) : mx_loop C S U (st 0) = r := by
  have key : ∀ m, m ≤ n → mx_loop C S U (st (n - m)) = r := by
    intro m
    induction m with
    | zero => intro _; exact loop_eq fin hs
    | succ m ih =>
      intro hm
      have e1 := step (n - (m + 1)) (by omega) (mx_loop C S U)
      rw [show n - (m + 1) + 1 = n - m by omega, ih (by omega)] at e1
      exact loop_eq e1 hs
  have := key n (Nat.le_refl _)
  rwa [Nat.sub_self] at this
/-- do loops -/
def mj_dx (S : mj_X mj_F) (C : mj_X Bool) (W : mj_X mj_F) (f : mj_F) (σ : mj_S) : mj_R mj_F := match f with
  | none => mj_bd (C σ) fun b σ => if b = true then W σ else .ok none σ
  | some (.inr false) => mj_bd (C σ) fun b σ => if b = true then W σ else .ok none σ
  | some (.inr true) => .ok none σ
  | some (.inl v) => .ok (some (.inl v)) σ
def mj_rdo (S : mj_X mj_F) (C : mj_X Bool) (W : mj_X mj_F) (σ : mj_S) : mj_R mj_F := mj_bd (S σ) (mj_dx S C W)
theorem dn_succ {S : mj_X mj_F} {C : mj_X Bool} {n : Nat} : mj_dn S C (n + 1) = mj_rdo S C (mj_dn S C n) := by
  funext σ
  show mj_bd (S σ) _ = mj_bd (S σ) _
  congr 1
theorem rdo_mono {S : mj_X mj_F} {C : mj_X Bool} {W W' : mj_X mj_F} (g : mj_ge W W') : mj_ge (mj_rdo S C W) (mj_rdo S C W') := by
  intro σ hs
  unfold mj_rdo at hs ⊢
  rcases stk_bd hs with ⟨f, σ1, e, h1⟩ | ⟨e, σ1, h1⟩
  · rw [e, bd_ok, bd_ok]
    have key : ∀ {σ3 : mj_S}, ¬ mj_stk (mj_bd (C σ3) fun b σ => if b = true then W σ else .ok none σ) → (mj_bd (C σ3) fun b σ => if b = true then W' σ else .ok none σ) = mj_bd (C σ3) fun b σ => if b = true then W σ else .ok none σ := by
      intro σ3 h3
      rcases stk_bd h3 with ⟨b, σ4, e4, h4⟩ | ⟨e4, σ4, h4⟩
      · rw [e4, bd_ok, bd_ok]
        by_cases hb : b = true
        · rw [if_pos hb] at h4 ⊢
          rw [if_pos hb]
          exact g σ4 h4
        · rw [if_neg hb, if_neg hb]
      · rw [h4]
        rfl
    rcases f with _ | v | _ | _
    · exact key h1
    · rfl
    · exact key h1
    · rfl
  · rw [h1]
    rfl
theorem dn_mono {S : mj_X mj_F} {C : mj_X Bool} : ∀ n : Nat, mj_ge (mj_dn S C n) (mj_dn S C (n + 1))
  | 0 => fun σ hs => absurd trivial hs
  | n + 1 => by
    rw [dn_succ, dn_succ]
    exact rdo_mono (dn_mono n)
theorem dn_le {S : mj_X mj_F} {C : mj_X Bool} {n : Nat} : ∀ m : Nat, mj_ge (mj_dn S C n) (mj_dn S C (n + m))
  | 0 => fun _ _ => rfl
  | m + 1 => fun σ hs => by
    have h1 := dn_le m σ hs
    have h2 := dn_mono (S := S) (C := C) (n + m) σ (by rw [h1]; exact hs)
    rw [← Nat.add_assoc, h2, h1]
theorem dlim_of {S : mj_X mj_F} {C : mj_X Bool} {n : Nat} {σ : mj_S} (h : ¬ mj_stk (mj_dn S C n σ)) : mx_do S C σ = mj_dn S C n σ := by
  have hex : ∃ n, ¬ mj_stk (mj_dn S C n σ) := ⟨n, h⟩
  unfold mx_do mj_lim
  rw [dif_pos hex]
  have hc := Classical.choose_spec hex
  have h1 := dn_le (S := S) (C := C) (n := n) (Classical.choose hex) σ h
  have h2 := dn_le (S := S) (C := C) (n := Classical.choose hex) n σ hc
  rw [Nat.add_comm] at h2
  rw [← h1, ← h2]
theorem do_ge {S : mj_X mj_F} {C : mj_X Bool} : mj_ge (mj_rdo S C (mx_do S C)) (mx_do S C) := by
  intro σ hs
  have lim : ∃ n, mj_rdo S C (mj_dn S C n) σ = mj_rdo S C (mx_do S C) σ := by
    unfold mj_rdo at hs ⊢
    rcases stk_bd hs with ⟨f, σ1, e, h1⟩ | ⟨e, σ1, h1⟩
    · have key : ∀ {σ3 : mj_S}, ¬ mj_stk (mj_bd (C σ3) fun b σ => if b = true then mx_do S C σ else .ok none σ) → ∃ n, (mj_bd (C σ3) fun b σ => if b = true then mj_dn S C n σ else .ok none σ) = mj_bd (C σ3) fun b σ => if b = true then mx_do S C σ else .ok none σ := by
        intro σ3 h3
        rcases stk_bd h3 with ⟨b, σ4, e4, h4⟩ | ⟨e4, σ4, h4⟩
        · rw [e4, bd_ok]
          by_cases hb : b = true
          · rw [if_pos hb] at h4 ⊢
            by_cases hex : ∃ n, ¬ mj_stk (mj_dn S C n σ4)
            · obtain ⟨n, hn⟩ := hex
              refine ⟨n, ?_⟩
              rw [bd_ok, if_pos hb, dlim_of hn]
            · unfold mx_do mj_lim at h4
              rw [dif_neg hex] at h4
              exact absurd trivial h4
          · exact ⟨0, by rw [bd_ok, if_neg hb, if_neg hb]⟩
        · exact ⟨0, by rw [h4]; rfl⟩
      rw [e, bd_ok]
      rcases f with _ | v | _ | _
      · exact (key h1).elim fun n hn => ⟨n, by rw [bd_ok]; exact hn⟩
      · exact ⟨0, rfl⟩
      · exact (key h1).elim fun n hn => ⟨n, by rw [bd_ok]; exact hn⟩
      · exact ⟨0, rfl⟩
    · exact ⟨0, by rw [h1]; rfl⟩
  obtain ⟨n, hn⟩ := lim
  rw [← hn, ← dn_succ] at hs ⊢
  exact dlim_of hs
theorem do_eq {S : mj_X mj_F} {C : mj_X Bool} {σ : mj_S} {r : mj_R mj_F} (h : mj_rdo S C (mx_do S C) σ = r) (hs : ¬ mj_stk r) : mx_do S C σ = r := by
  subst h
  exact do_ge σ hs
theorem dx_n {S : mj_X mj_F} {C : mj_X Bool} {W : mj_X mj_F} {σ : mj_S} : mj_dx S C W none σ = mj_bd (C σ) fun b σ => if b = true then W σ else .ok none σ := rfl
theorem nstk_ok {α : Type} {a : α} {σ : mj_S} : ¬ mj_stk (.ok a σ : mj_R α) := id
theorem nstk_er {α : Type} {e : Nat} {σ : mj_S} : ¬ mj_stk (.error (some e) σ : mj_R α) := id
