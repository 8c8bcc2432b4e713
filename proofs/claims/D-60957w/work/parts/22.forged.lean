theorem rk_X1_433 {μ : mj_I} {j p0 p1 p2 : Nat} {O : mj_X (Option Nat)} {Es : mj_X (List Value)} (ho : μ.1 = RX1) (hlen : ∀ σ, mj_ln 0 (Es σ)) (hfr : 2 ≤ μ.2.2.2.1) (hj : j ≤ 8) (hrg : μ.2.2.2.2.2.2 p2 = true) (d : decode μ.2.1 p2 = .ok (.invokevirtual 433, 3)) (e1 : mj_E va_rf μ j p0 p1 O) (e2 : mj_Ar μ (j + 1) p1 p2 Es) : mj_Ec μ j p0 (p2 + 3) (mx_cv 1 m_X3_clear O Es) := r_callV (y := yX3_clear) (ccy := cX3_clear) (nLy := 2) (fry := 1) (n := 0) (ci := 1) (rety := none) sd_X3_clear rfl (by decide) (by rw [ho]; exact lw_V q406 q407 q408 q126 q409) (by decide +kernel) (by decide) hlen hfr hj hrg d e1 e2
theorem rk_X1_442 {μ : mj_I} {j p0 p1 p2 : Nat} {O : mj_X (Option Nat)} {Es : mj_X (List Value)} (ho : μ.1 = RX1) (hlen : ∀ σ, mj_ln 0 (Es σ)) (hfr : 20 ≤ μ.2.2.2.1) (hj : j ≤ 8) (hrg : μ.2.2.2.2.2.2 p2 = true) (d : decode μ.2.1 p2 = .ok (.invokevirtual 442, 3)) (e1 : mj_E va_rf μ j p0 p1 O) (e2 : mj_Ar μ (j + 1) p1 p2 Es) : mj_Ec μ j p0 (p2 + 3) (mx_cv 0 m_X1_lines O Es) := r_callV (y := yX1_lines) (ccy := cX1_lines) (nLy := 4) (fry := 19) (n := 0) (ci := 0) (rety := none) sd_X1_lines rfl (by decide) (by rw [ho]; exact lw_V q410 q412 qs1 q119 q413) (by decide +kernel) (by decide) hlen hfr hj hrg d e1 e2
abbrev mi_X1_assemble : mj_I := (RX1, cX1_assemble, 2, 20, false, [(95, 109, 112, 42)], (fun p => !(decide (95 ≤ p) && decide (p < 109))))
noncomputable def b_X1_assemble : mj_X mj_F :=
  (mx_seq (mx_if (mx_cmp c_eq (mx_get 0 6 (mx_vr 0)) (mx_k (8 : Int32)))
   (mx_seq (mx_put 0 1 (mx_vr 0) (mx_k (0 : Int32)))
  (mx_thr 3))
   mx_skip)
  (mx_seq (mx_if (mx_is mj_isn (mx_ar (mx_getr 0 5 (mx_vr 0)) (mx_get 0 6 (mx_vr 0))))
   (mx_rst (mx_getr 0 5 (mx_vr 0)) (mx_get 0 6 (mx_vr 0)) (mx_new 1 18 m_X3_init))
   mx_skip)
  (mx_seq (mx_putr 0 7 (mx_vr 0) (mx_ar (mx_getr 0 5 (mx_vr 0)) (mx_get 0 6 (mx_vr 0))))
  (mx_seq (mx_void (mx_cv 1 m_X3_clear (mx_getr 0 7 (mx_vr 0)) mx_nil))
  (mx_seq (mx_put 0 2 (mx_vr 0) (mx_k (0 : Int32)))
  (mx_seq (mx_put 0 8 (mx_vr 0) (mx_k (0 : Int32)))
  (mx_seq (mx_put 0 3 (mx_vr 0) (mx_k (1 : Int32)))
  (mx_seq (mx_put 0 13 (mx_vr 0) (mx_k (0 : Int32)))
  (mx_seq (mx_put 0 14 (mx_vr 0) (mx_k (0 : Int32)))
  (mx_seq (mx_try (mx_seq (mx_void (mx_cv 0 m_X1_lines (mx_vr 0) mx_nil))
  (mx_upd 0 6 o_iadd (mx_vr 0) (mx_k (1 : Int32)))) ((4, 1, (mx_seq (mx_put 0 13 (mx_vr 0) (mx_get 0 4 (mx_vr 0)))
  (mx_put 0 14 (mx_vr 0) (mx_get 0 3 (mx_vr 0))))) :: []))
  (mx_seq (mx_put 0 1 (mx_vr 0) (mx_k (0 : Int32)))
  (mx_ret .int (mx_cond (mx_is z_eq (mx_get 0 13 (mx_vr 0))) (mx_bin o_isub (mx_get 0 6 (mx_vr 0)) (mx_k (1 : Int32))) (mx_k (-1 : Int32)))))))))))))))
set_option maxRecDepth 100000 in
set_option maxHeartbeats 4000000 in
theorem cf_X1_assemble : mj_Sm mi_X1_assemble 0 0 0 0 b_X1_assemble :=
  (r_seq (p1 := 22) (r_if (p1 := 9) (p2 := 22) (p3 := 22) (r_ceq_f (p1 := 4) (p2 := 6) dX1_assemble_6 rfl (rg_X1_429 (p1 := 1) rfl dX1_assemble_1 (r_aload_n dX1_assemble_0 rfl)) (r_bipush dX1_assemble_4 rfl))
   (r_seq (p1 := 14) (rp_X1_36 (p1 := 10) (p2 := 11) rfl dX1_assemble_11 (r_aload_n dX1_assemble_9 rfl) (r_iconst dX1_assemble_10 rfl))
  (rt_X1_J3 (by decide) rfl dX1_assemble_14 dX1_assemble_17 dX1_assemble_18 dX1_assemble_21))
   r_skip)
  (r_seq (p1 := 50) (r_if (p1 := 34) (p2 := 50) (p3 := 50) (r_null (p1 := 31) dX1_assemble_31 rfl (r_aaload (p1 := 26) (p2 := 30) dX1_assemble_30 (rg_X1_15 (p1 := 23) rfl dX1_assemble_23 (r_aload_n dX1_assemble_22 rfl)) (rg_X1_429 (p1 := 27) rfl dX1_assemble_27 (r_aload_n dX1_assemble_26 rfl))))
   (r_aastore (p1 := 38) (p2 := 42) (p3 := 49) dX1_assemble_49 (rg_X1_15 (p1 := 35) rfl dX1_assemble_35 (r_aload_n dX1_assemble_34 rfl)) (rg_X1_429 (p1 := 39) rfl dX1_assemble_39 (r_aload_n dX1_assemble_38 rfl)) (r_newN (ci := 1) (T := TX3) (fry := 1) rfl rfl in_X3 tyX3_ok q141 q328 q126 sd_X3_init (lw_meth q331) q126 mj_neI q330 rfl (by decide +kernel) (by decide) (by decide) (by decide) rfl dX1_assemble_42 dX1_assemble_45 dX1_assemble_46))
   r_skip)
  (r_seq (p1 := 63) (rp_X1_150 (p1 := 51) (p2 := 60) rfl dX1_assemble_60 (r_aload_n dX1_assemble_50 rfl) (r_aaload (p1 := 55) (p2 := 59) dX1_assemble_59 (rg_X1_15 (p1 := 52) rfl dX1_assemble_52 (r_aload_n dX1_assemble_51 rfl)) (rg_X1_429 (p1 := 56) rfl dX1_assemble_56 (r_aload_n dX1_assemble_55 rfl))))
  (r_seq (p1 := 70) (r_void (rk_X1_433 (p1 := 67) (p2 := 67) rfl r_len0 (by decide) (by decide) rfl dX1_assemble_67 (rg_X1_150 (p1 := 64) rfl dX1_assemble_64 (r_aload_n dX1_assemble_63 rfl)) r_nil))
  (r_seq (p1 := 75) (rp_X1_48 (p1 := 71) (p2 := 72) rfl dX1_assemble_72 (r_aload_n dX1_assemble_70 rfl) (r_iconst dX1_assemble_71 rfl))
  (r_seq (p1 := 80) (rp_X1_204 (p1 := 76) (p2 := 77) rfl dX1_assemble_77 (r_aload_n dX1_assemble_75 rfl) (r_iconst dX1_assemble_76 rfl))
  (r_seq (p1 := 85) (rp_X1_235 (p1 := 81) (p2 := 82) rfl dX1_assemble_82 (r_aload_n dX1_assemble_80 rfl) (r_iconst dX1_assemble_81 rfl))
  (r_seq (p1 := 90) (rp_X1_436 (p1 := 86) (p2 := 87) rfl dX1_assemble_87 (r_aload_n dX1_assemble_85 rfl) (r_iconst dX1_assemble_86 rfl))
  (r_seq (p1 := 95) (rp_X1_439 (p1 := 91) (p2 := 92) rfl dX1_assemble_92 (r_aload_n dX1_assemble_90 rfl) (r_iconst dX1_assemble_91 rfl))
  (r_seq (p1 := 129) (r_try (rg := (fun p => decide (95 ≤ p) && decide (p < 109))) (r_goto (p1 := 109) dX1_assemble_109 rfl (r_seq (p1 := 99) (r_void (rk_X1_442 (p1 := 96) (p2 := 96) rfl r_len0 (by decide) (by decide) rfl dX1_assemble_96 (r_aload_n dX1_assemble_95 rfl) r_nil))
  (ru_X1_429 (p1 := 100) (p2 := 105) rfl dX1_assemble_100 dX1_assemble_101 dX1_assemble_106 (fun K Z C L st h a b k => mj_iadd C dX1_assemble_105 k) (r_aload_n dX1_assemble_99 rfl) (r_iconst dX1_assemble_104 rfl)))) (r_hsS (hp := 112) (hq := 113) (r_hd [] (95, 109, 112, 42) [] rfl (by decide) (fun z hz => nomatch hz) (fun p hp => by simpa using hp) (by decide) rfl q306 (by decide) (Or.inl ⟨1, dX1_assemble_112, rfl, rfl⟩)) (r_seq (p1 := 121) (rp_X1_436 (p1 := 114) (p2 := 118) rfl dX1_assemble_118 (r_aload_n dX1_assemble_113 rfl) (rg_X1_45 (p1 := 115) rfl dX1_assemble_115 (r_aload_n dX1_assemble_114 rfl)))
  (rp_X1_439 (p1 := 122) (p2 := 126) rfl dX1_assemble_126 (r_aload_n dX1_assemble_121 rfl) (rg_X1_235 (p1 := 123) rfl dX1_assemble_123 (r_aload_n dX1_assemble_122 rfl)))) r_hs0))
  (r_seq (p1 := 134) (rp_X1_36 (p1 := 130) (p2 := 131) rfl dX1_assemble_131 (r_aload_n dX1_assemble_129 rfl) (r_iconst dX1_assemble_130 rfl))
  (r_reti (p1 := 151) dX1_assemble_151 (r_cond (p1 := 141) (p2 := 150) (p3 := 151) (r_zeq_f (p1 := 138) dX1_assemble_138 rfl (rg_X1_436 (p1 := 135) rfl dX1_assemble_135 (r_aload_n dX1_assemble_134 rfl))) (r_egoto (p1 := 147) dX1_assemble_147 rfl (r_isub (p1 := 145) (p2 := 146) dX1_assemble_146 (rg_X1_429 (p1 := 142) rfl dX1_assemble_142 (r_aload_n dX1_assemble_141 rfl)) (r_iconst dX1_assemble_145 rfl))) (r_iconst dX1_assemble_150 rfl))))))))))))))
noncomputable def m_X1_assemble : List Value → mj_H → mj_Res := mj_mk (some .int) 2 b_X1_assemble
theorem sd_X1_assemble : mj_Snd yX1_assemble (wsW_ yX1_assemble cX1_assemble 2 (some .int) [(95, 109, 112, 42)]) 20 m_X1_assemble := mj_sndW (own := RX1) (ini := false) (pE := 0) (bk := 0) (cn := 0) rfl (by decide) (fun h => nomatch h) (fun h => nomatch h) (fun p hp x hx => mj_cov (a := 95) (b := 109) (by decide) hp hx) cf_X1_assemble
theorem rk_X1_445 {μ : mj_I} {j p0 p1 : Nat} {Es : mj_X (List Value)} (ho : μ.1 = RX1) (hlen : ∀ σ, mj_ln 1 (Es σ)) (hfr : 7 ≤ μ.2.2.2.1) (hj : j ≤ 8) (hrg : μ.2.2.2.2.2.2 p1 = true) (d : decode μ.2.1 p1 = .ok (.invokestatic 445, 3)) (e2 : mj_Ar μ j p0 p1 Es) : mj_Ec μ j p0 (p1 + 3) (mx_cs m_X1_there Es) := r_callS (y := yX1_there) (ccy := cX1_there) (nLy := 1) (fry := 6) (n := 1) (rety := none) sd_X1_there (by rw [ho]; exact lw_S q792 q793 q119 q794) (by decide +kernel) (by decide) hlen hfr hj hrg d e2
abbrev mi_X1_fault : mj_I := (RX1, cX1_fault, 2, 7, false, [], (fun _ => true))
noncomputable def b_X1_fault : mj_X mj_F :=
  (mx_seq (mx_void (mx_cs m_X1_there (mx_cons .int (mx_cond (mx_and (mx_is z_ge (mx_v 1)) (mx_cmp c_lt (mx_v 1) (mx_k (5 : Int32)))) (mx_k (1 : Int32)) (mx_k (0 : Int32))) mx_nil)))
  (mx_ret .int (mx_cond (mx_is z_eq (mx_v 1)) (mx_get 0 13 (mx_vr 0)) (mx_cond (mx_cmp c_eq (mx_v 1) (mx_k (1 : Int32))) (mx_get 0 14 (mx_vr 0)) (mx_cond (mx_cmp c_eq (mx_v 1) (mx_k (2 : Int32))) (mx_get 0 15 (mx_vr 0)) (mx_cond (mx_cmp c_eq (mx_v 1) (mx_k (3 : Int32))) (mx_get 0 16 (mx_vr 0)) (mx_get 0 17 (mx_vr 0))))))))
set_option maxRecDepth 100000 in
set_option maxHeartbeats 4000000 in
theorem cf_X1_fault : mj_Sm mi_X1_fault 0 0 0 0 b_X1_fault :=
  (r_seq (p1 := 17) (r_void (rk_X1_445 (p1 := 14) rfl (r_lenS r_len0) (by decide) (by decide) rfl dX1_fault_14 (r_cons (p1 := 14) mj_wi (r_cond (p1 := 9) (p2 := 13) (p3 := 14) (r_and (p1 := 4) (p2 := 9) (p3 := 13) (r_zge_f (p1 := 1) dX1_fault_1 rfl (r_iload_n dX1_fault_0 rfl)) (r_clt_f (p1 := 5) (p2 := 6) dX1_fault_6 rfl (r_iload_n dX1_fault_4 rfl) (r_iconst dX1_fault_5 rfl))) (r_egoto (p1 := 10) dX1_fault_10 rfl (r_iconst dX1_fault_9 rfl)) (r_iconst dX1_fault_13 rfl)) r_nil)))
  (r_reti (p1 := 68) dX1_fault_68 (r_cond (p1 := 21) (p2 := 28) (p3 := 68) (r_zeq_f (p1 := 18) dX1_fault_18 rfl (r_iload_n dX1_fault_17 rfl)) (r_egoto (p1 := 25) dX1_fault_25 rfl (rg_X1_436 (p1 := 22) rfl dX1_fault_22 (r_aload_n dX1_fault_21 rfl))) (r_cond (p1 := 33) (p2 := 40) (p3 := 68) (r_ceq_f (p1 := 29) (p2 := 30) dX1_fault_30 rfl (r_iload_n dX1_fault_28 rfl) (r_iconst dX1_fault_29 rfl)) (r_egoto (p1 := 37) dX1_fault_37 rfl (rg_X1_439 (p1 := 34) rfl dX1_fault_34 (r_aload_n dX1_fault_33 rfl))) (r_cond (p1 := 45) (p2 := 52) (p3 := 68) (r_ceq_f (p1 := 41) (p2 := 42) dX1_fault_42 rfl (r_iload_n dX1_fault_40 rfl) (r_iconst dX1_fault_41 rfl)) (r_egoto (p1 := 49) dX1_fault_49 rfl (rg_X1_448 (p1 := 46) rfl dX1_fault_46 (r_aload_n dX1_fault_45 rfl))) (r_cond (p1 := 57) (p2 := 64) (p3 := 68) (r_ceq_f (p1 := 53) (p2 := 54) dX1_fault_54 rfl (r_iload_n dX1_fault_52 rfl) (r_iconst dX1_fault_53 rfl)) (r_egoto (p1 := 61) dX1_fault_61 rfl (rg_X1_19 (p1 := 58) rfl dX1_fault_58 (r_aload_n dX1_fault_57 rfl))) (rg_X1_23 (p1 := 65) rfl dX1_fault_65 (r_aload_n dX1_fault_64 rfl))))))))
noncomputable def m_X1_fault : List Value → mj_H → mj_Res := mj_mk (some .int) 2 b_X1_fault
theorem sd_X1_fault : mj_Snd yX1_fault (ws_ yX1_fault cX1_fault 2 (some .int)) 7 m_X1_fault := mj_snd (own := RX1) (ini := false) (pE := 0) (bk := 0) (cn := 0) rfl (by decide) (fun h => nomatch h) (fun h => nomatch h) cf_X1_fault
abbrev mi_X1_unitOf : mj_I := (RX1, cX1_unitOf, 2, 7, false, [], (fun _ => true))
noncomputable def b_X1_unitOf : mj_X mj_F :=
  (mx_seq (mx_void (mx_cs m_X1_there (mx_cons .int (mx_cond (mx_and (mx_is z_ge (mx_v 1)) (mx_cmp c_lt (mx_v 1) (mx_get 0 6 (mx_vr 0)))) (mx_k (1 : Int32)) (mx_k (0 : Int32))) mx_nil)))
  (mx_ret va_rf (mx_ar (mx_getr 0 5 (mx_vr 0)) (mx_v 1))))
set_option maxRecDepth 100000 in
set_option maxHeartbeats 4000000 in
theorem cf_X1_unitOf : mj_Sm mi_X1_unitOf 0 0 0 0 b_X1_unitOf :=
  (r_seq (p1 := 20) (r_void (rk_X1_445 (p1 := 17) rfl (r_lenS r_len0) (by decide) (by decide) rfl dX1_unitOf_17 (r_cons (p1 := 17) mj_wi (r_cond (p1 := 12) (p2 := 16) (p3 := 17) (r_and (p1 := 4) (p2 := 12) (p3 := 16) (r_zge_f (p1 := 1) dX1_unitOf_1 rfl (r_iload_n dX1_unitOf_0 rfl)) (r_clt_f (p1 := 5) (p2 := 9) dX1_unitOf_9 rfl (r_iload_n dX1_unitOf_4 rfl) (rg_X1_429 (p1 := 6) rfl dX1_unitOf_6 (r_aload_n dX1_unitOf_5 rfl)))) (r_egoto (p1 := 13) dX1_unitOf_13 rfl (r_iconst dX1_unitOf_12 rfl)) (r_iconst dX1_unitOf_16 rfl)) r_nil)))
  (r_retr (p1 := 26) dX1_unitOf_26 (r_aaload (p1 := 24) (p2 := 25) dX1_unitOf_25 (rg_X1_15 (p1 := 21) rfl dX1_unitOf_21 (r_aload_n dX1_unitOf_20 rfl)) (r_iload_n dX1_unitOf_24 rfl))))
noncomputable def m_X1_unitOf : List Value → mj_H → mj_Res := mj_mk (some (.object RX3)) 2 b_X1_unitOf
theorem sd_X1_unitOf : mj_Snd yX1_unitOf (ws_ yX1_unitOf cX1_unitOf 2 (some (.object RX3))) 7 m_X1_unitOf := mj_snd (own := RX1) (ini := false) (pE := 0) (bk := 0) (cn := 0) rfl (by decide) (fun h => nomatch h) (fun h => nomatch h) cf_X1_unitOf
theorem rk_X1_451 {μ : mj_I} {j p0 p1 p2 : Nat} {O : mj_X (Option Nat)} {Es : mj_X (List Value)} (ho : μ.1 = RX1) (hlen : ∀ σ, mj_ln 1 (Es σ)) (hfr : 8 ≤ μ.2.2.2.1) (hj : j ≤ 8) (hrg : μ.2.2.2.2.2.2 p2 = true) (d : decode μ.2.1 p2 = .ok (.invokevirtual 451, 3)) (e1 : mj_E va_rf μ j p0 p1 O) (e2 : mj_Ar μ (j + 1) p1 p2 Es) : mj_Ec μ j p0 (p2 + 3) (mx_cv 0 m_X1_unitOf O Es) := r_callV (y := yX1_unitOf) (ccy := cX1_unitOf) (nLy := 2) (fry := 7) (n := 1) (ci := 0) (rety := (some (.object RX3))) sd_X1_unitOf rfl (by decide) (by rw [ho]; exact lw_V q817 q819 qs53 q119 q820) (by decide +kernel) (by decide) hlen hfr hj hrg d e1 e2
abbrev mi_X1_size : mj_I := (RX1, cX1_size, 3, 8, false, [], (fun _ => true))
noncomputable def b_X1_size : mj_X mj_F :=
  (mx_seq (mx_void (mx_cs m_X1_there (mx_cons .int (mx_cond (mx_and (mx_is z_ge (mx_v 2)) (mx_cmp c_lt (mx_v 2) (mx_k (3 : Int32)))) (mx_k (1 : Int32)) (mx_k (0 : Int32))) mx_nil)))
  (mx_ret .int (mx_ai (mx_getr 1 2 (mx_asr (mx_cv 0 m_X1_unitOf (mx_vr 0) (mx_cons .int (mx_v 1) mx_nil)))) (mx_v 2))))
set_option maxRecDepth 100000 in
set_option maxHeartbeats 4000000 in
theorem cf_X1_size : mj_Sm mi_X1_size 0 0 0 0 b_X1_size :=
  (r_seq (p1 := 17) (r_void (rk_X1_445 (p1 := 14) rfl (r_lenS r_len0) (by decide) (by decide) rfl dX1_size_14 (r_cons (p1 := 14) mj_wi (r_cond (p1 := 9) (p2 := 13) (p3 := 14) (r_and (p1 := 4) (p2 := 9) (p3 := 13) (r_zge_f (p1 := 1) dX1_size_1 rfl (r_iload_n dX1_size_0 rfl)) (r_clt_f (p1 := 5) (p2 := 6) dX1_size_6 rfl (r_iload_n dX1_size_4 rfl) (r_iconst dX1_size_5 rfl))) (r_egoto (p1 := 10) dX1_size_10 rfl (r_iconst dX1_size_9 rfl)) (r_iconst dX1_size_13 rfl)) r_nil)))
  (r_reti (p1 := 27) dX1_size_27 (r_iaload (p1 := 25) (p2 := 26) dX1_size_26 (rg_X1_201 (p1 := 22) rfl dX1_size_22 (r_asr (rk_X1_451 (p1 := 18) (p2 := 19) rfl (r_lenS r_len0) (by decide) (by decide) rfl dX1_size_19 (r_aload_n dX1_size_17 rfl) (r_cons (p1 := 19) mj_wi (r_iload_n dX1_size_18 rfl) r_nil)))) (r_iload_n dX1_size_25 rfl))))
noncomputable def m_X1_size : List Value → mj_H → mj_Res := mj_mk (some .int) 3 b_X1_size
theorem sd_X1_size : mj_Snd yX1_size (ws_ yX1_size cX1_size 3 (some .int)) 8 m_X1_size := mj_snd (own := RX1) (ini := false) (pE := 0) (bk := 0) (cn := 0) rfl (by decide) (fun h => nomatch h) (fun h => nomatch h) cf_X1_size
abbrev mi_X1_byteAt : mj_I := (RX1, cX1_byteAt, 5, 8, false, [], (fun _ => true))
noncomputable def b_X1_byteAt : mj_X mj_F :=
  (mx_seq (mx_void (mx_cs m_X1_there (mx_cons .int (mx_cond (mx_or (mx_is z_eq (mx_v 2)) (mx_cmp c_eq (mx_v 2) (mx_k (1 : Int32)))) (mx_k (1 : Int32)) (mx_k (0 : Int32))) mx_nil)))
  (mx_seq (mx_setr 4 (mx_asr (mx_cv 0 m_X1_unitOf (mx_vr 0) (mx_cons .int (mx_v 1) mx_nil))))
  (mx_seq (mx_void (mx_cs m_X1_there (mx_cons .int (mx_cond (mx_and (mx_is z_ge (mx_v 3)) (mx_cmp c_lt (mx_v 3) (mx_ai (mx_getr 1 2 (mx_vr 4)) (mx_v 2)))) (mx_k (1 : Int32)) (mx_k (0 : Int32))) mx_nil)))
  (mx_ret .int (mx_bin o_iand (mx_ab (mx_asr (mx_cv 1 m_X3_bytes (mx_vr 4) (mx_cons .int (mx_v 2) mx_nil))) (mx_v 3)) (mx_k (255 : Int32)))))))
set_option maxRecDepth 100000 in
set_option maxHeartbeats 4000000 in
theorem cf_X1_byteAt : mj_Sm mi_X1_byteAt 0 0 0 0 b_X1_byteAt :=
  (r_seq (p1 := 17) (r_void (rk_X1_445 (p1 := 14) rfl (r_lenS r_len0) (by decide) (by decide) rfl dX1_byteAt_14 (r_cons (p1 := 14) mj_wi (r_cond (p1 := 9) (p2 := 13) (p3 := 14) (r_or (p1 := 4) (p2 := 9) (p3 := 13) (r_zeq_t (p1 := 1) dX1_byteAt_1 rfl (r_iload_n dX1_byteAt_0 rfl)) (r_ceq_f (p1 := 5) (p2 := 6) dX1_byteAt_6 rfl (r_iload_n dX1_byteAt_4 rfl) (r_iconst dX1_byteAt_5 rfl))) (r_egoto (p1 := 10) dX1_byteAt_10 rfl (r_iconst dX1_byteAt_9 rfl)) (r_iconst dX1_byteAt_13 rfl)) r_nil)))
  (r_seq (p1 := 24) (r_astore (p1 := 22) dX1_byteAt_22 (by decide) (r_asr (rk_X1_451 (p1 := 18) (p2 := 19) rfl (r_lenS r_len0) (by decide) (by decide) rfl dX1_byteAt_19 (r_aload_n dX1_byteAt_17 rfl) (r_cons (p1 := 19) mj_wi (r_iload_n dX1_byteAt_18 rfl) r_nil))))
  (r_seq (p1 := 47) (r_void (rk_X1_445 (p1 := 44) rfl (r_lenS r_len0) (by decide) (by decide) rfl dX1_byteAt_44 (r_cons (p1 := 44) mj_wi (r_cond (p1 := 39) (p2 := 43) (p3 := 44) (r_and (p1 := 28) (p2 := 39) (p3 := 43) (r_zge_f (p1 := 25) dX1_byteAt_25 rfl (r_iload_n dX1_byteAt_24 rfl)) (r_clt_f (p1 := 29) (p2 := 36) dX1_byteAt_36 rfl (r_iload_n dX1_byteAt_28 rfl) (r_iaload (p1 := 34) (p2 := 35) dX1_byteAt_35 (rg_X1_201 (p1 := 31) rfl dX1_byteAt_31 (r_aload dX1_byteAt_29)) (r_iload_n dX1_byteAt_34 rfl)))) (r_egoto (p1 := 40) dX1_byteAt_40 rfl (r_iconst dX1_byteAt_39 rfl)) (r_iconst dX1_byteAt_43 rfl)) r_nil)))
  (r_reti (p1 := 59) dX1_byteAt_59 (r_iand (p1 := 55) (p2 := 58) dX1_byteAt_58 (r_baload (p1 := 53) (p2 := 54) dX1_byteAt_54 (r_asr (rk_X1_210 (p1 := 49) (p2 := 50) rfl (r_lenS r_len0) (by decide) (by decide) rfl dX1_byteAt_50 (r_aload dX1_byteAt_47) (r_cons (p1 := 50) mj_wi (r_iload_n dX1_byteAt_49 rfl) r_nil))) (r_iload_n dX1_byteAt_53 rfl)) (r_sipush dX1_byteAt_55 rfl))))))
noncomputable def m_X1_byteAt : List Value → mj_H → mj_Res := mj_mk (some .int) 5 b_X1_byteAt
theorem sd_X1_byteAt : mj_Snd yX1_byteAt (ws_ yX1_byteAt cX1_byteAt 5 (some .int)) 8 m_X1_byteAt := mj_snd (own := RX1) (ini := false) (pE := 0) (bk := 0) (cn := 0) rfl (by decide) (fun h => nomatch h) (fun h => nomatch h) cf_X1_byteAt
abbrev mi_X1_symbol : mj_I := (RX1, cX1_symbol, 5, 8, false, [], (fun _ => true))
noncomputable def b_X1_symbol : mj_X mj_F :=
  (mx_seq (mx_setr 4 (mx_asr (mx_cv 0 m_X1_unitOf (mx_vr 0) (mx_cons .int (mx_v 1) mx_nil))))
  (mx_seq (mx_void (mx_cs m_X1_there (mx_cons .int (mx_cond (mx_and (mx_and (mx_and (mx_is z_ge (mx_v 2)) (mx_cmp c_lt (mx_v 2) (mx_get 1 10 (mx_vr 4)))) (mx_is z_ge (mx_v 3))) (mx_cmp c_lt (mx_v 3) (mx_k (4 : Int32)))) (mx_k (1 : Int32)) (mx_k (0 : Int32))) mx_nil)))
  (mx_ret .int (mx_cond (mx_is z_eq (mx_v 3)) (mx_ai (mx_getr 1 5 (mx_vr 4)) (mx_v 2)) (mx_cond (mx_cmp c_eq (mx_v 3) (mx_k (1 : Int32))) (mx_ai (mx_getr 1 6 (mx_vr 4)) (mx_v 2)) (mx_cond (mx_cmp c_eq (mx_v 3) (mx_k (2 : Int32))) (mx_cond (mx_is z_ne (mx_ab (mx_getr 1 7 (mx_vr 4)) (mx_v 2))) (mx_k (1 : Int32)) (mx_k (0 : Int32))) (mx_ai (mx_getr 1 4 (mx_vr 4)) (mx_v 2))))))))
set_option maxRecDepth 100000 in
set_option maxHeartbeats 4000000 in
theorem cf_X1_symbol : mj_Sm mi_X1_symbol 0 0 0 0 b_X1_symbol :=
  (r_seq (p1 := 7) (r_astore (p1 := 5) dX1_symbol_5 (by decide) (r_asr (rk_X1_451 (p1 := 1) (p2 := 2) rfl (r_lenS r_len0) (by decide) (by decide) rfl dX1_symbol_2 (r_aload_n dX1_symbol_0 rfl) (r_cons (p1 := 2) mj_wi (r_iload_n dX1_symbol_1 rfl) r_nil))))
  (r_seq (p1 := 37) (r_void (rk_X1_445 (p1 := 34) rfl (r_lenS r_len0) (by decide) (by decide) rfl dX1_symbol_34 (r_cons (p1 := 34) mj_wi (r_cond (p1 := 29) (p2 := 33) (p3 := 34) (r_and (p1 := 24) (p2 := 29) (p3 := 33) (r_and (p1 := 20) (p2 := 24) (p3 := 33) (r_and (p1 := 11) (p2 := 20) (p3 := 33) (r_zge_f (p1 := 8) dX1_symbol_8 rfl (r_iload_n dX1_symbol_7 rfl)) (r_clt_f (p1 := 12) (p2 := 17) dX1_symbol_17 rfl (r_iload_n dX1_symbol_11 rfl) (rg_X1_154 (p1 := 14) rfl dX1_symbol_14 (r_aload dX1_symbol_12)))) (r_zge_f (p1 := 21) dX1_symbol_21 rfl (r_iload_n dX1_symbol_20 rfl))) (r_clt_f (p1 := 25) (p2 := 26) dX1_symbol_26 rfl (r_iload_n dX1_symbol_24 rfl) (r_iconst dX1_symbol_25 rfl))) (r_egoto (p1 := 30) dX1_symbol_30 rfl (r_iconst dX1_symbol_29 rfl)) (r_iconst dX1_symbol_33 rfl)) r_nil)))
  (r_reti (p1 := 96) dX1_symbol_96 (r_cond (p1 := 41) (p2 := 51) (p3 := 96) (r_zeq_f (p1 := 38) dX1_symbol_38 rfl (r_iload_n dX1_symbol_37 rfl)) (r_egoto (p1 := 48) dX1_symbol_48 rfl (r_iaload (p1 := 46) (p2 := 47) dX1_symbol_47 (rg_X1_164 (p1 := 43) rfl dX1_symbol_43 (r_aload dX1_symbol_41)) (r_iload_n dX1_symbol_46 rfl))) (r_cond (p1 := 56) (p2 := 66) (p3 := 96) (r_ceq_f (p1 := 52) (p2 := 53) dX1_symbol_53 rfl (r_iload_n dX1_symbol_51 rfl) (r_iconst dX1_symbol_52 rfl)) (r_egoto (p1 := 63) dX1_symbol_63 rfl (r_iaload (p1 := 61) (p2 := 62) dX1_symbol_62 (rg_X1_167 (p1 := 58) rfl dX1_symbol_58 (r_aload dX1_symbol_56)) (r_iload_n dX1_symbol_61 rfl))) (r_cond (p1 := 71) (p2 := 89) (p3 := 96) (r_ceq_f (p1 := 67) (p2 := 68) dX1_symbol_68 rfl (r_iload_n dX1_symbol_66 rfl) (r_iconst dX1_symbol_67 rfl)) (r_cond (p1 := 81) (p2 := 85) (p3 := 96) (r_zne_f (p1 := 78) dX1_symbol_78 rfl (r_baload (p1 := 76) (p2 := 77) dX1_symbol_77 (rg_X1_170 (p1 := 73) rfl dX1_symbol_73 (r_aload dX1_symbol_71)) (r_iload_n dX1_symbol_76 rfl))) (r_egoto (p1 := 82) dX1_symbol_82 rfl (r_iconst dX1_symbol_81 rfl)) (r_egoto (p1 := 86) dX1_symbol_86 rfl (r_iconst dX1_symbol_85 rfl))) (r_iaload (p1 := 94) (p2 := 95) dX1_symbol_95 (rg_X1_157 (p1 := 91) rfl dX1_symbol_91 (r_aload dX1_symbol_89)) (r_iload_n dX1_symbol_94 rfl))))))))
noncomputable def m_X1_symbol : List Value → mj_H → mj_Res := mj_mk (some .int) 5 b_X1_symbol
theorem sd_X1_symbol : mj_Snd yX1_symbol (ws_ yX1_symbol cX1_symbol 5 (some .int)) 8 m_X1_symbol := mj_snd (own := RX1) (ini := false) (pE := 0) (bk := 0) (cn := 0) rfl (by decide) (fun h => nomatch h) (fun h => nomatch h) cf_X1_symbol
abbrev mi_X1_letter : mj_I := (RX1, cX1_letter, 5, 8, false, [], (fun _ => true))
noncomputable def b_X1_letter : mj_X mj_F :=
  (mx_seq (mx_setr 4 (mx_asr (mx_cv 0 m_X1_unitOf (mx_vr 0) (mx_cons .int (mx_v 1) mx_nil))))
  (mx_seq (mx_void (mx_cs m_X1_there (mx_cons .int (mx_cond (mx_and (mx_and (mx_and (mx_is z_ge (mx_v 2)) (mx_cmp c_lt (mx_v 2) (mx_get 1 10 (mx_vr 4)))) (mx_is z_ge (mx_v 3))) (mx_cmp c_lt (mx_v 3) (mx_ai (mx_getr 1 4 (mx_vr 4)) (mx_v 2)))) (mx_k (1 : Int32)) (mx_k (0 : Int32))) mx_nil)))
  (mx_ret .int (mx_bin o_iand (mx_ab (mx_getr 1 3 (mx_vr 4)) (mx_bin o_iadd (mx_bin o_imul (mx_k (24 : Int32)) (mx_v 2)) (mx_v 3))) (mx_k (255 : Int32))))))
set_option maxRecDepth 100000 in
set_option maxHeartbeats 4000000 in
theorem cf_X1_letter : mj_Sm mi_X1_letter 0 0 0 0 b_X1_letter :=
  (r_seq (p1 := 7) (r_astore (p1 := 5) dX1_letter_5 (by decide) (r_asr (rk_X1_451 (p1 := 1) (p2 := 2) rfl (r_lenS r_len0) (by decide) (by decide) rfl dX1_letter_2 (r_aload_n dX1_letter_0 rfl) (r_cons (p1 := 2) mj_wi (r_iload_n dX1_letter_1 rfl) r_nil))))
  (r_seq (p1 := 43) (r_void (rk_X1_445 (p1 := 40) rfl (r_lenS r_len0) (by decide) (by decide) rfl dX1_letter_40 (r_cons (p1 := 40) mj_wi (r_cond (p1 := 35) (p2 := 39) (p3 := 40) (r_and (p1 := 24) (p2 := 35) (p3 := 39) (r_and (p1 := 20) (p2 := 24) (p3 := 39) (r_and (p1 := 11) (p2 := 20) (p3 := 39) (r_zge_f (p1 := 8) dX1_letter_8 rfl (r_iload_n dX1_letter_7 rfl)) (r_clt_f (p1 := 12) (p2 := 17) dX1_letter_17 rfl (r_iload_n dX1_letter_11 rfl) (rg_X1_154 (p1 := 14) rfl dX1_letter_14 (r_aload dX1_letter_12)))) (r_zge_f (p1 := 21) dX1_letter_21 rfl (r_iload_n dX1_letter_20 rfl))) (r_clt_f (p1 := 25) (p2 := 32) dX1_letter_32 rfl (r_iload_n dX1_letter_24 rfl) (r_iaload (p1 := 30) (p2 := 31) dX1_letter_31 (rg_X1_157 (p1 := 27) rfl dX1_letter_27 (r_aload dX1_letter_25)) (r_iload_n dX1_letter_30 rfl)))) (r_egoto (p1 := 36) dX1_letter_36 rfl (r_iconst dX1_letter_35 rfl)) (r_iconst dX1_letter_39 rfl)) r_nil)))
  (r_reti (p1 := 59) dX1_letter_59 (r_iand (p1 := 55) (p2 := 58) dX1_letter_58 (r_baload (p1 := 48) (p2 := 54) dX1_letter_54 (rg_X1_161 (p1 := 45) rfl dX1_letter_45 (r_aload dX1_letter_43)) (r_iadd (p1 := 52) (p2 := 53) dX1_letter_53 (r_imul (p1 := 50) (p2 := 51) dX1_letter_51 (r_bipush dX1_letter_48 rfl) (r_iload_n dX1_letter_50 rfl)) (r_iload_n dX1_letter_52 rfl))) (r_sipush dX1_letter_55 rfl)))))
noncomputable def m_X1_letter : List Value → mj_H → mj_Res := mj_mk (some .int) 5 b_X1_letter
theorem sd_X1_letter : mj_Snd yX1_letter (ws_ yX1_letter cX1_letter 5 (some .int)) 8 m_X1_letter := mj_snd (own := RX1) (ini := false) (pE := 0) (bk := 0) (cn := 0) rfl (by decide) (fun h => nomatch h) (fun h => nomatch h) cf_X1_letter
abbrev mi_X1_relocation : mj_I := (RX1, cX1_relocation, 5, 8, false, [], (fun _ => true))
noncomputable def b_X1_relocation : mj_X mj_F :=
  (mx_seq (mx_setr 4 (mx_asr (mx_cv 0 m_X1_unitOf (mx_vr 0) (mx_cons .int (mx_v 1) mx_nil))))
  (mx_seq (mx_void (mx_cs m_X1_there (mx_cons .int (mx_cond (mx_and (mx_and (mx_and (mx_is z_ge (mx_v 2)) (mx_cmp c_lt (mx_v 2) (mx_get 1 17 (mx_vr 4)))) (mx_is z_ge (mx_v 3))) (mx_cmp c_lt (mx_v 3) (mx_k (5 : Int32)))) (mx_k (1 : Int32)) (mx_k (0 : Int32))) mx_nil)))
  (mx_ret .int (mx_cond (mx_is z_eq (mx_v 3)) (mx_ai (mx_getr 1 11 (mx_vr 4)) (mx_v 2)) (mx_cond (mx_cmp c_eq (mx_v 3) (mx_k (1 : Int32))) (mx_ai (mx_getr 1 12 (mx_vr 4)) (mx_v 2)) (mx_cond (mx_cmp c_eq (mx_v 3) (mx_k (2 : Int32))) (mx_ai (mx_getr 1 13 (mx_vr 4)) (mx_v 2)) (mx_cond (mx_cmp c_eq (mx_v 3) (mx_k (3 : Int32))) (mx_ai (mx_getr 1 14 (mx_vr 4)) (mx_v 2)) (mx_ai (mx_getr 1 15 (mx_vr 4)) (mx_v 2)))))))))
set_option maxRecDepth 100000 in
set_option maxHeartbeats 4000000 in
theorem cf_X1_relocation : mj_Sm mi_X1_relocation 0 0 0 0 b_X1_relocation :=
  (r_seq (p1 := 7) (r_astore (p1 := 5) dX1_relocation_5 (by decide) (r_asr (rk_X1_451 (p1 := 1) (p2 := 2) rfl (r_lenS r_len0) (by decide) (by decide) rfl dX1_relocation_2 (r_aload_n dX1_relocation_0 rfl) (r_cons (p1 := 2) mj_wi (r_iload_n dX1_relocation_1 rfl) r_nil))))
  (r_seq (p1 := 37) (r_void (rk_X1_445 (p1 := 34) rfl (r_lenS r_len0) (by decide) (by decide) rfl dX1_relocation_34 (r_cons (p1 := 34) mj_wi (r_cond (p1 := 29) (p2 := 33) (p3 := 34) (r_and (p1 := 24) (p2 := 29) (p3 := 33) (r_and (p1 := 20) (p2 := 24) (p3 := 33) (r_and (p1 := 11) (p2 := 20) (p3 := 33) (r_zge_f (p1 := 8) dX1_relocation_8 rfl (r_iload_n dX1_relocation_7 rfl)) (r_clt_f (p1 := 12) (p2 := 17) dX1_relocation_17 rfl (r_iload_n dX1_relocation_11 rfl) (rg_X1_214 (p1 := 14) rfl dX1_relocation_14 (r_aload dX1_relocation_12)))) (r_zge_f (p1 := 21) dX1_relocation_21 rfl (r_iload_n dX1_relocation_20 rfl))) (r_clt_f (p1 := 25) (p2 := 26) dX1_relocation_26 rfl (r_iload_n dX1_relocation_24 rfl) (r_iconst dX1_relocation_25 rfl))) (r_egoto (p1 := 30) dX1_relocation_30 rfl (r_iconst dX1_relocation_29 rfl)) (r_iconst dX1_relocation_33 rfl)) r_nil)))
  (r_reti (p1 := 103) dX1_relocation_103 (r_cond (p1 := 41) (p2 := 51) (p3 := 103) (r_zeq_f (p1 := 38) dX1_relocation_38 rfl (r_iload_n dX1_relocation_37 rfl)) (r_egoto (p1 := 48) dX1_relocation_48 rfl (r_iaload (p1 := 46) (p2 := 47) dX1_relocation_47 (rg_X1_217 (p1 := 43) rfl dX1_relocation_43 (r_aload dX1_relocation_41)) (r_iload_n dX1_relocation_46 rfl))) (r_cond (p1 := 56) (p2 := 66) (p3 := 103) (r_ceq_f (p1 := 52) (p2 := 53) dX1_relocation_53 rfl (r_iload_n dX1_relocation_51 rfl) (r_iconst dX1_relocation_52 rfl)) (r_egoto (p1 := 63) dX1_relocation_63 rfl (r_iaload (p1 := 61) (p2 := 62) dX1_relocation_62 (rg_X1_220 (p1 := 58) rfl dX1_relocation_58 (r_aload dX1_relocation_56)) (r_iload_n dX1_relocation_61 rfl))) (r_cond (p1 := 71) (p2 := 81) (p3 := 103) (r_ceq_f (p1 := 67) (p2 := 68) dX1_relocation_68 rfl (r_iload_n dX1_relocation_66 rfl) (r_iconst dX1_relocation_67 rfl)) (r_egoto (p1 := 78) dX1_relocation_78 rfl (r_iaload (p1 := 76) (p2 := 77) dX1_relocation_77 (rg_X1_223 (p1 := 73) rfl dX1_relocation_73 (r_aload dX1_relocation_71)) (r_iload_n dX1_relocation_76 rfl))) (r_cond (p1 := 86) (p2 := 96) (p3 := 103) (r_ceq_f (p1 := 82) (p2 := 83) dX1_relocation_83 rfl (r_iload_n dX1_relocation_81 rfl) (r_iconst dX1_relocation_82 rfl)) (r_egoto (p1 := 93) dX1_relocation_93 rfl (r_iaload (p1 := 91) (p2 := 92) dX1_relocation_92 (rg_X1_226 (p1 := 88) rfl dX1_relocation_88 (r_aload dX1_relocation_86)) (r_iload_n dX1_relocation_91 rfl))) (r_iaload (p1 := 101) (p2 := 102) dX1_relocation_102 (rg_X1_229 (p1 := 98) rfl dX1_relocation_98 (r_aload dX1_relocation_96)) (r_iload_n dX1_relocation_101 rfl)))))))))
noncomputable def m_X1_relocation : List Value → mj_H → mj_Res := mj_mk (some .int) 5 b_X1_relocation
theorem sd_X1_relocation : mj_Snd yX1_relocation (ws_ yX1_relocation cX1_relocation 5 (some .int)) 8 m_X1_relocation := mj_snd (own := RX1) (ini := false) (pE := 0) (bk := 0) (cn := 0) rfl (by decide) (fun h => nomatch h) (fun h => nomatch h) cf_X1_relocation
abbrev mi_X1_failed : mj_I := (RX1, cX1_failed, 4, 1, false, [], (fun _ => true))
noncomputable def b_X1_failed : mj_X mj_F :=
  (mx_seq (mx_put 0 15 (mx_vr 0) (mx_v 1))
  (mx_seq (mx_put 0 16 (mx_vr 0) (mx_v 2))
  (mx_seq (mx_put 0 17 (mx_vr 0) (mx_v 3))
  (mx_ret .int (mx_k (0 : Int32))))))
set_option maxRecDepth 100000 in
set_option maxHeartbeats 4000000 in
theorem cf_X1_failed : mj_Sm mi_X1_failed 0 0 0 0 b_X1_failed :=
  (r_seq (p1 := 5) (rp_X1_448 (p1 := 1) (p2 := 2) rfl dX1_failed_2 (r_aload_n dX1_failed_0 rfl) (r_iload_n dX1_failed_1 rfl))
  (r_seq (p1 := 10) (rp_X1_19 (p1 := 6) (p2 := 7) rfl dX1_failed_7 (r_aload_n dX1_failed_5 rfl) (r_iload_n dX1_failed_6 rfl))
  (r_seq (p1 := 15) (rp_X1_23 (p1 := 11) (p2 := 12) rfl dX1_failed_12 (r_aload_n dX1_failed_10 rfl) (r_iload_n dX1_failed_11 rfl))
  (r_reti (p1 := 16) dX1_failed_16 (r_iconst dX1_failed_15 rfl)))))
noncomputable def m_X1_failed : List Value → mj_H → mj_Res := mj_mk (some .boolean) 4 b_X1_failed
theorem sd_X1_failed : mj_Snd yX1_failed (ws_ yX1_failed cX1_failed 4 (some .boolean)) 1 m_X1_failed := mj_snd (own := RX1) (ini := false) (pE := 0) (bk := 0) (cn := 0) rfl (by decide) (fun h => nomatch h) (fun h => nomatch h) cf_X1_failed
abbrev mi_X1_layOut : mj_I := (RX1, cX1_layOut, 4, 1, false, [], (fun _ => true))
noncomputable def b_X1_layOut : mj_X mj_F :=
  (mx_seq (mx_set 1 (mx_k (0 : Int32)))
  (mx_seq (mx_seq (mx_set 2 (mx_k (0 : Int32)))
  (mx_loop (mx_cmp c_lt (mx_v 2) (mx_k (3 : Int32)))
  (mx_seq (mx_set 3 (mx_k (0 : Int32)))
  (mx_loop (mx_cmp c_lt (mx_v 3) (mx_get 0 6 (mx_vr 0)))
  (mx_seq (mx_if (mx_is z_gt (mx_v 2))
   (mx_set 1 (mx_bin o_iand (mx_bin o_iadd (mx_v 1) (mx_k (7 : Int32))) (mx_k (-8 : Int32))))
   mx_skip)
  (mx_seq (mx_ast (mx_getr 1 9 (mx_ar (mx_getr 0 5 (mx_vr 0)) (mx_v 3))) (mx_v 2) (mx_v 1))
  (mx_set 1 (mx_bin o_iadd (mx_v 1) (mx_ai (mx_getr 1 2 (mx_ar (mx_getr 0 5 (mx_vr 0)) (mx_v 3))) (mx_v 2))))))
  (mx_inc 3 (1 : Int32))))
  (mx_inc 2 (1 : Int32))))
  (mx_ret .int (mx_v 1))))
set_option maxRecDepth 100000 in
set_option maxHeartbeats 4000000 in
theorem cf_X1_layOut : mj_Sm mi_X1_layOut 0 0 0 0 b_X1_layOut :=
  (r_seq (p1 := 2) (r_istore_n (p1 := 1) dX1_layOut_1 rfl (by decide) (r_iconst dX1_layOut_0 rfl))
  (r_seq (p1 := 69) (r_seq (p1 := 4) (r_istore_n (p1 := 3) dX1_layOut_3 rfl (by decide) (r_iconst dX1_layOut_2 rfl))
  (r_loop (p1 := 9) (p2 := 63) (pE := 69) (r_clt_f (p1 := 5) (p2 := 6) dX1_layOut_6 rfl (r_iload_n dX1_layOut_4 rfl) (r_iconst dX1_layOut_5 rfl))
  (r_seq (p1 := 11) (r_istore_n (p1 := 10) dX1_layOut_10 rfl (by decide) (r_iconst dX1_layOut_9 rfl))
  (r_loop (p1 := 19) (p2 := 57) (pE := 63) (r_clt_f (p1 := 12) (p2 := 16) dX1_layOut_16 rfl (r_iload_n dX1_layOut_11 rfl) (rg_X1_429 (p1 := 13) rfl dX1_layOut_13 (r_aload_n dX1_layOut_12 rfl)))
  (r_seq (p1 := 31) (r_if (p1 := 23) (p2 := 31) (p3 := 31) (r_zgt_f (p1 := 20) dX1_layOut_20 rfl (r_iload_n dX1_layOut_19 rfl))
   (r_istore_n (p1 := 30) dX1_layOut_30 rfl (by decide) (r_iand (p1 := 27) (p2 := 29) dX1_layOut_29 (r_iadd (p1 := 24) (p2 := 26) dX1_layOut_26 (r_iload_n dX1_layOut_23 rfl) (r_bipush dX1_layOut_24 rfl)) (r_bipush dX1_layOut_27 rfl)))
   r_skip)
  (r_seq (p1 := 43) (r_iastore (p1 := 40) (p2 := 41) (p3 := 42) dX1_layOut_42 (rg_X1_455 (p1 := 37) rfl dX1_layOut_37 (r_aaload (p1 := 35) (p2 := 36) dX1_layOut_36 (rg_X1_15 (p1 := 32) rfl dX1_layOut_32 (r_aload_n dX1_layOut_31 rfl)) (r_iload_n dX1_layOut_35 rfl))) (r_iload_n dX1_layOut_40 rfl) (r_iload_n dX1_layOut_41 rfl))
  (r_istore_n (p1 := 56) dX1_layOut_56 rfl (by decide) (r_iadd (p1 := 44) (p2 := 55) dX1_layOut_55 (r_iload_n dX1_layOut_43 rfl) (r_iaload (p1 := 53) (p2 := 54) dX1_layOut_54 (rg_X1_201 (p1 := 50) rfl dX1_layOut_50 (r_aaload (p1 := 48) (p2 := 49) dX1_layOut_49 (rg_X1_15 (p1 := 45) rfl dX1_layOut_45 (r_aload_n dX1_layOut_44 rfl)) (r_iload_n dX1_layOut_48 rfl))) (r_iload_n dX1_layOut_53 rfl))))))
  (r_goto (p1 := 60) dX1_layOut_60 rfl (r_iinc dX1_layOut_57 rfl (by decide)))))
  (r_goto (p1 := 66) dX1_layOut_66 rfl (r_iinc dX1_layOut_63 rfl (by decide)))))
  (r_reti (p1 := 70) dX1_layOut_70 (r_iload_n dX1_layOut_69 rfl))))
noncomputable def m_X1_layOut : List Value → mj_H → mj_Res := mj_mk (some .int) 4 b_X1_layOut
theorem sd_X1_layOut : mj_Snd yX1_layOut (ws_ yX1_layOut cX1_layOut 4 (some .int)) 1 m_X1_layOut := mj_snd (own := RX1) (ini := false) (pE := 0) (bk := 0) (cn := 0) rfl (by decide) (fun h => nomatch h) (fun h => nomatch h) cf_X1_layOut
theorem rk_X1_458 {μ : mj_I} {j p0 p1 p2 : Nat} {O : mj_X (Option Nat)} {Es : mj_X (List Value)} (ho : μ.1 = RX1) (hlen : ∀ σ, mj_ln 3 (Es σ)) (hfr : 2 ≤ μ.2.2.2.1) (hj : j ≤ 8) (hrg : μ.2.2.2.2.2.2 p2 = true) (d : decode μ.2.1 p2 = .ok (.invokevirtual 458, 3)) (e1 : mj_E va_rf μ j p0 p1 O) (e2 : mj_Ar μ (j + 1) p1 p2 Es) : mj_Ec μ j p0 (p2 + 3) (mx_cv 1 m_X3_same O Es) := r_callV (y := yX3_same) (ccy := cX3_same) (nLy := 6) (fry := 1) (n := 3) (ci := 1) (rety := (some .boolean)) sd_X3_same rfl (by decide) (by rw [ho]; exact lw_V q872 q873 q874 q126 q875) (by decide +kernel) (by decide) hlen hfr hj hrg d e1 e2
abbrev mi_X1_owner : mj_I := (RX1, cX1_owner, 7, 2, false, [], (fun _ => true))
noncomputable def b_X1_owner : mj_X mj_F :=
  (mx_seq (mx_seq (mx_set 4 (mx_k (0 : Int32)))
  (mx_loop (mx_cmp c_lt (mx_v 4) (mx_v 3))
  (mx_seq (mx_setr 5 (mx_ar (mx_getr 0 5 (mx_vr 0)) (mx_v 4)))
  (mx_seq (mx_set 6 (mx_k (0 : Int32)))
  (mx_loop (mx_and (mx_cmp c_lt (mx_v 6) (mx_get 1 10 (mx_vr 5))) (mx_not (mx_same (mx_vr 5) (mx_vr 1))))
  (mx_if (mx_and (mx_and (mx_is z_ne (mx_ab (mx_getr 1 7 (mx_vr 5)) (mx_v 6))) (mx_not (mx_is z_ne (mx_asi (mx_cv 1 m_X3_isOpen (mx_vr 5) (mx_cons .int (mx_v 6) mx_nil)))))) (mx_is z_ne (mx_asi (mx_cv 1 m_X3_same (mx_vr 5) (mx_cons .int (mx_v 6) (mx_cons va_rf (mx_vr 1) (mx_cons .int (mx_v 2) mx_nil)))))))
   (mx_seq (mx_put 0 24 (mx_vr 0) (mx_v 6))
  (mx_ret .int (mx_v 4)))
   mx_skip)
  (mx_inc 6 (1 : Int32)))))
  (mx_inc 4 (1 : Int32))))
  (mx_ret .int (mx_k (-1 : Int32))))
set_option maxRecDepth 100000 in
set_option maxHeartbeats 4000000 in
theorem cf_X1_owner : mj_Sm mi_X1_owner 0 0 0 0 b_X1_owner :=
  (r_seq (p1 := 91) (r_seq (p1 := 3) (r_istore (p1 := 1) dX1_owner_1 (by decide) (r_iconst dX1_owner_0 rfl))
  (r_loop (p1 := 9) (p2 := 85) (pE := 91) (r_clt_f (p1 := 5) (p2 := 6) dX1_owner_6 rfl (r_iload dX1_owner_3) (r_iload_n dX1_owner_5 rfl))
  (r_seq (p1 := 18) (r_astore (p1 := 16) dX1_owner_16 (by decide) (r_aaload (p1 := 13) (p2 := 15) dX1_owner_15 (rg_X1_15 (p1 := 10) rfl dX1_owner_10 (r_aload_n dX1_owner_9 rfl)) (r_iload dX1_owner_13)))
  (r_seq (p1 := 21) (r_istore (p1 := 19) dX1_owner_19 (by decide) (r_iconst dX1_owner_18 rfl))
  (r_loop (p1 := 37) (p2 := 79) (pE := 85) (r_and (p1 := 31) (p2 := 37) (p3 := 85) (r_clt_f (p1 := 23) (p2 := 28) dX1_owner_28 rfl (r_iload dX1_owner_21) (rg_X1_154 (p1 := 25) rfl dX1_owner_25 (r_aload dX1_owner_23))) (r_differ (p1 := 33) (p2 := 34) dX1_owner_34 rfl (r_aload dX1_owner_31) (r_aload_n dX1_owner_33 rfl)))
  (r_if (p1 := 70) (p2 := 79) (p3 := 79) (r_and (p1 := 58) (p2 := 70) (p3 := 79) (r_and (p1 := 48) (p2 := 58) (p3 := 79) (r_zne_f (p1 := 45) dX1_owner_45 rfl (r_baload (p1 := 42) (p2 := 44) dX1_owner_44 (rg_X1_170 (p1 := 39) rfl dX1_owner_39 (r_aload dX1_owner_37)) (r_iload dX1_owner_42))) (r_not (r_zne_t (p1 := 55) dX1_owner_55 rfl (r_asi (rk_X1_408 (p1 := 50) (p2 := 52) rfl (r_lenS r_len0) (by decide) (by decide) rfl dX1_owner_52 (r_aload dX1_owner_48) (r_cons (p1 := 52) mj_wi (r_iload dX1_owner_50) r_nil)))))) (r_zne_f (p1 := 67) dX1_owner_67 rfl (r_asi (rk_X1_458 (p1 := 60) (p2 := 64) rfl (r_lenS (r_lenS (r_lenS r_len0))) (by decide) (by decide) rfl dX1_owner_64 (r_aload dX1_owner_58) (r_cons (p1 := 62) mj_wi (r_iload dX1_owner_60) (r_cons (p1 := 63) mj_wr (r_aload_n dX1_owner_62 rfl) (r_cons (p1 := 64) mj_wi (r_iload_n dX1_owner_63 rfl) r_nil)))))))
   (r_seq (p1 := 76) (rp_X1_462 (p1 := 71) (p2 := 73) rfl dX1_owner_73 (r_aload_n dX1_owner_70 rfl) (r_iload dX1_owner_71))
  (r_reti (p1 := 78) dX1_owner_78 (r_iload dX1_owner_76)))
   r_skip)
  (r_goto (p1 := 82) dX1_owner_82 rfl (r_iinc dX1_owner_79 rfl (by decide))))))
  (r_goto (p1 := 88) dX1_owner_88 rfl (r_iinc dX1_owner_85 rfl (by decide)))))
  (r_reti (p1 := 92) dX1_owner_92 (r_iconst dX1_owner_91 rfl)))
noncomputable def m_X1_owner : List Value → mj_H → mj_Res := mj_mk (some .int) 7 b_X1_owner
theorem sd_X1_owner : mj_Snd yX1_owner (ws_ yX1_owner cX1_owner 7 (some .int)) 2 m_X1_owner := mj_snd (own := RX1) (ini := false) (pE := 0) (bk := 0) (cn := 0) rfl (by decide) (fun h => nomatch h) (fun h => nomatch h) cf_X1_owner
theorem rk_X1_465 {μ : mj_I} {j p0 p1 p2 : Nat} {O : mj_X (Option Nat)} {Es : mj_X (List Value)} (ho : μ.1 = RX1) (hlen : ∀ σ, mj_ln 3 (Es σ)) (hfr : 3 ≤ μ.2.2.2.1) (hj : j ≤ 8) (hrg : μ.2.2.2.2.2.2 p2 = true) (d : decode μ.2.1 p2 = .ok (.invokevirtual 465, 3)) (e1 : mj_E va_rf μ j p0 p1 O) (e2 : mj_Ar μ (j + 1) p1 p2 Es) : mj_Ec μ j p0 (p2 + 3) (mx_cv 0 m_X1_owner O Es) := r_callV (y := yX1_owner) (ccy := cX1_owner) (nLy := 7) (fry := 2) (n := 3) (ci := 0) (rety := (some .int)) sd_X1_owner rfl (by decide) (by rw [ho]; exact lw_V q868 q870 qs57 q119 q871) (by decide +kernel) (by decide) hlen hfr hj hrg d e1 e2
theorem rk_X1_469 {μ : mj_I} {j p0 p1 p2 : Nat} {O : mj_X (Option Nat)} {Es : mj_X (List Value)} (ho : μ.1 = RX1) (hlen : ∀ σ, mj_ln 3 (Es σ)) (hfr : 2 ≤ μ.2.2.2.1) (hj : j ≤ 8) (hrg : μ.2.2.2.2.2.2 p2 = true) (d : decode μ.2.1 p2 = .ok (.invokevirtual 469, 3)) (e1 : mj_E va_rf μ j p0 p1 O) (e2 : mj_Ar μ (j + 1) p1 p2 Es) : mj_Ec μ j p0 (p2 + 3) (mx_cv 0 m_X1_failed O Es) := r_callV (y := yX1_failed) (ccy := cX1_failed) (nLy := 4) (fry := 1) (n := 3) (ci := 0) (rety := (some .boolean)) sd_X1_failed rfl (by decide) (by rw [ho]; exact lw_V q856 q858 qs54 q119 q859) (by decide +kernel) (by decide) hlen hfr hj hrg d e1 e2
abbrev mi_X1_resolves : mj_I := (RX1, cX1_resolves, 7, 3, false, [], (fun _ => true))
noncomputable def b_X1_resolves : mj_X mj_F :=
  (mx_seq (mx_seq (mx_set 1 (mx_k (0 : Int32)))
  (mx_loop (mx_cmp c_lt (mx_v 1) (mx_get 0 6 (mx_vr 0)))
  (mx_seq (mx_setr 2 (mx_ar (mx_getr 0 5 (mx_vr 0)) (mx_v 1)))
  (mx_seq (mx_set 3 (mx_k (0 : Int32)))
  (mx_loop (mx_cmp c_lt (mx_v 3) (mx_get 1 10 (mx_vr 2)))
  (mx_if (mx_and (mx_and (mx_is z_ne (mx_ab (mx_getr 1 7 (mx_vr 2)) (mx_v 3))) (mx_not (mx_is z_ne (mx_asi (mx_cv 1 m_X3_isOpen (mx_vr 2) (mx_cons .int (mx_v 3) mx_nil)))))) (mx_is z_ge (mx_asi (mx_cv 0 m_X1_owner (mx_vr 0) (mx_cons va_rf (mx_vr 2) (mx_cons .int (mx_v 3) (mx_cons .int (mx_v 1) mx_nil)))))))
   (mx_ret .int (mx_asi (mx_cv 0 m_X1_failed (mx_vr 0) (mx_cons .int (mx_k (1 : Int32)) (mx_cons .int (mx_v 1) (mx_cons .int (mx_v 3) mx_nil))))))
   mx_skip)
  (mx_inc 3 (1 : Int32)))))
  (mx_inc 1 (1 : Int32))))
  (mx_seq (mx_seq (mx_set 1 (mx_k (0 : Int32)))
  (mx_loop (mx_cmp c_lt (mx_v 1) (mx_get 0 6 (mx_vr 0)))
  (mx_seq (mx_setr 2 (mx_ar (mx_getr 0 5 (mx_vr 0)) (mx_v 1)))
  (mx_seq (mx_set 3 (mx_k (0 : Int32)))
  (mx_loop (mx_cmp c_lt (mx_v 3) (mx_get 1 10 (mx_vr 2)))
  (mx_seq (mx_setr 4 (mx_vr 2))
  (mx_seq (mx_set 5 (mx_v 3))
  (mx_seq (mx_if (mx_is z_ne (mx_asi (mx_cv 1 m_X3_isOpen (mx_vr 2) (mx_cons .int (mx_v 3) mx_nil))))
   (mx_seq (mx_set 6 (mx_asi (mx_cv 0 m_X1_owner (mx_vr 0) (mx_cons va_rf (mx_vr 2) (mx_cons .int (mx_v 3) (mx_cons .int (mx_get 0 6 (mx_vr 0)) mx_nil))))))
  (mx_seq (mx_if (mx_is z_lt (mx_v 6))
   (mx_ret .int (mx_asi (mx_cv 0 m_X1_failed (mx_vr 0) (mx_cons .int (mx_k (2 : Int32)) (mx_cons .int (mx_v 1) (mx_cons .int (mx_v 3) mx_nil))))))
   mx_skip)
  (mx_seq (mx_setr 4 (mx_ar (mx_getr 0 5 (mx_vr 0)) (mx_v 6)))
  (mx_set 5 (mx_get 0 24 (mx_vr 0))))))
   mx_skip)
  (mx_ast (mx_getr 1 8 (mx_vr 2)) (mx_v 3) (mx_bin o_iadd (mx_bin o_iadd (mx_get 0 20 (mx_vr 0)) (mx_ai (mx_getr 1 9 (mx_vr 4)) (mx_ai (mx_getr 1 5 (mx_vr 4)) (mx_v 5)))) (mx_ai (mx_getr 1 6 (mx_vr 4)) (mx_v 5)))))))
  (mx_inc 3 (1 : Int32)))))
  (mx_inc 1 (1 : Int32))))
  (mx_ret .int (mx_k (1 : Int32)))))
set_option maxRecDepth 100000 in
set_option maxHeartbeats 4000000 in
theorem cf_X1_resolves : mj_Sm mi_X1_resolves 0 0 0 0 b_X1_resolves :=
  (r_seq (p1 := 74) (r_seq (p1 := 2) (r_istore_n (p1 := 1) dX1_resolves_1 rfl (by decide) (r_iconst dX1_resolves_0 rfl))
  (r_loop (p1 := 10) (p2 := 68) (pE := 74) (r_clt_f (p1 := 3) (p2 := 7) dX1_resolves_7 rfl (r_iload_n dX1_resolves_2 rfl) (rg_X1_429 (p1 := 4) rfl dX1_resolves_4 (r_aload_n dX1_resolves_3 rfl)))
  (r_seq (p1 := 17) (r_astore_n (p1 := 16) dX1_resolves_16 rfl (by decide) (r_aaload (p1 := 14) (p2 := 15) dX1_resolves_15 (rg_X1_15 (p1 := 11) rfl dX1_resolves_11 (r_aload_n dX1_resolves_10 rfl)) (r_iload_n dX1_resolves_14 rfl)))
  (r_seq (p1 := 19) (r_istore_n (p1 := 18) dX1_resolves_18 rfl (by decide) (r_iconst dX1_resolves_17 rfl))
  (r_loop (p1 := 27) (p2 := 62) (pE := 68) (r_clt_f (p1 := 20) (p2 := 24) dX1_resolves_24 rfl (r_iload_n dX1_resolves_19 rfl) (rg_X1_154 (p1 := 21) rfl dX1_resolves_21 (r_aload_n dX1_resolves_20 rfl)))
  (r_if (p1 := 54) (p2 := 62) (p3 := 62) (r_and (p1 := 44) (p2 := 54) (p3 := 62) (r_and (p1 := 36) (p2 := 44) (p3 := 62) (r_zne_f (p1 := 33) dX1_resolves_33 rfl (r_baload (p1 := 31) (p2 := 32) dX1_resolves_32 (rg_X1_170 (p1 := 28) rfl dX1_resolves_28 (r_aload_n dX1_resolves_27 rfl)) (r_iload_n dX1_resolves_31 rfl))) (r_not (r_zne_t (p1 := 41) dX1_resolves_41 rfl (r_asi (rk_X1_408 (p1 := 37) (p2 := 38) rfl (r_lenS r_len0) (by decide) (by decide) rfl dX1_resolves_38 (r_aload_n dX1_resolves_36 rfl) (r_cons (p1 := 38) mj_wi (r_iload_n dX1_resolves_37 rfl) r_nil)))))) (r_zge_f (p1 := 51) dX1_resolves_51 rfl (r_asi (rk_X1_465 (p1 := 45) (p2 := 48) rfl (r_lenS (r_lenS (r_lenS r_len0))) (by decide) (by decide) rfl dX1_resolves_48 (r_aload_n dX1_resolves_44 rfl) (r_cons (p1 := 46) mj_wr (r_aload_n dX1_resolves_45 rfl) (r_cons (p1 := 47) mj_wi (r_iload_n dX1_resolves_46 rfl) (r_cons (p1 := 48) mj_wi (r_iload_n dX1_resolves_47 rfl) r_nil)))))))
   (r_reti (p1 := 61) dX1_resolves_61 (r_asi (rk_X1_469 (p1 := 55) (p2 := 58) rfl (r_lenS (r_lenS (r_lenS r_len0))) (by decide) (by decide) rfl dX1_resolves_58 (r_aload_n dX1_resolves_54 rfl) (r_cons (p1 := 56) mj_wi (r_iconst dX1_resolves_55 rfl) (r_cons (p1 := 57) mj_wi (r_iload_n dX1_resolves_56 rfl) (r_cons (p1 := 58) mj_wi (r_iload_n dX1_resolves_57 rfl) r_nil))))))
   r_skip)
  (r_goto (p1 := 65) dX1_resolves_65 rfl (r_iinc dX1_resolves_62 rfl (by decide))))))
  (r_goto (p1 := 71) dX1_resolves_71 rfl (r_iinc dX1_resolves_68 rfl (by decide)))))
  (r_seq (p1 := 201) (r_seq (p1 := 76) (r_istore_n (p1 := 75) dX1_resolves_75 rfl (by decide) (r_iconst dX1_resolves_74 rfl))
  (r_loop (p1 := 84) (p2 := 195) (pE := 201) (r_clt_f (p1 := 77) (p2 := 81) dX1_resolves_81 rfl (r_iload_n dX1_resolves_76 rfl) (rg_X1_429 (p1 := 78) rfl dX1_resolves_78 (r_aload_n dX1_resolves_77 rfl)))
  (r_seq (p1 := 91) (r_astore_n (p1 := 90) dX1_resolves_90 rfl (by decide) (r_aaload (p1 := 88) (p2 := 89) dX1_resolves_89 (rg_X1_15 (p1 := 85) rfl dX1_resolves_85 (r_aload_n dX1_resolves_84 rfl)) (r_iload_n dX1_resolves_88 rfl)))
  (r_seq (p1 := 93) (r_istore_n (p1 := 92) dX1_resolves_92 rfl (by decide) (r_iconst dX1_resolves_91 rfl))
  (r_loop (p1 := 101) (p2 := 189) (pE := 195) (r_clt_f (p1 := 94) (p2 := 98) dX1_resolves_98 rfl (r_iload_n dX1_resolves_93 rfl) (rg_X1_154 (p1 := 95) rfl dX1_resolves_95 (r_aload_n dX1_resolves_94 rfl)))
  (r_seq (p1 := 104) (r_astore (p1 := 102) dX1_resolves_102 (by decide) (r_aload_n dX1_resolves_101 rfl))
  (r_seq (p1 := 107) (r_istore (p1 := 105) dX1_resolves_105 (by decide) (r_iload_n dX1_resolves_104 rfl))
  (r_seq (p1 := 155) (r_if (p1 := 115) (p2 := 155) (p3 := 155) (r_zne_f (p1 := 112) dX1_resolves_112 rfl (r_asi (rk_X1_408 (p1 := 108) (p2 := 109) rfl (r_lenS r_len0) (by decide) (by decide) rfl dX1_resolves_109 (r_aload_n dX1_resolves_107 rfl) (r_cons (p1 := 109) mj_wi (r_iload_n dX1_resolves_108 rfl) r_nil))))
   (r_seq (p1 := 127) (r_istore (p1 := 125) dX1_resolves_125 (by decide) (r_asi (rk_X1_465 (p1 := 116) (p2 := 122) rfl (r_lenS (r_lenS (r_lenS r_len0))) (by decide) (by decide) rfl dX1_resolves_122 (r_aload_n dX1_resolves_115 rfl) (r_cons (p1 := 117) mj_wr (r_aload_n dX1_resolves_116 rfl) (r_cons (p1 := 118) mj_wi (r_iload_n dX1_resolves_117 rfl) (r_cons (p1 := 122) mj_wi (rg_X1_429 (p1 := 119) rfl dX1_resolves_119 (r_aload_n dX1_resolves_118 rfl)) r_nil))))))
  (r_seq (p1 := 140) (r_if (p1 := 132) (p2 := 140) (p3 := 140) (r_zlt_f (p1 := 129) dX1_resolves_129 rfl (r_iload dX1_resolves_127))
   (r_reti (p1 := 139) dX1_resolves_139 (r_asi (rk_X1_469 (p1 := 133) (p2 := 136) rfl (r_lenS (r_lenS (r_lenS r_len0))) (by decide) (by decide) rfl dX1_resolves_136 (r_aload_n dX1_resolves_132 rfl) (r_cons (p1 := 134) mj_wi (r_iconst dX1_resolves_133 rfl) (r_cons (p1 := 135) mj_wi (r_iload_n dX1_resolves_134 rfl) (r_cons (p1 := 136) mj_wi (r_iload_n dX1_resolves_135 rfl) r_nil))))))
   r_skip)
  (r_seq (p1 := 149) (r_astore (p1 := 147) dX1_resolves_147 (by decide) (r_aaload (p1 := 144) (p2 := 146) dX1_resolves_146 (rg_X1_15 (p1 := 141) rfl dX1_resolves_141 (r_aload_n dX1_resolves_140 rfl)) (r_iload dX1_resolves_144)))
  (r_istore (p1 := 153) dX1_resolves_153 (by decide) (rg_X1_462 (p1 := 150) rfl dX1_resolves_150 (r_aload_n dX1_resolves_149 rfl))))))
   r_skip)
  (r_iastore (p1 := 159) (p2 := 160) (p3 := 188) dX1_resolves_188 (rg_X1_473 (p1 := 156) rfl dX1_resolves_156 (r_aload_n dX1_resolves_155 rfl)) (r_iload_n dX1_resolves_159 rfl) (r_iadd (p1 := 179) (p2 := 187) dX1_resolves_187 (r_iadd (p1 := 164) (p2 := 178) dX1_resolves_178 (rg_X1_476 (p1 := 161) rfl dX1_resolves_161 (r_aload_n dX1_resolves_160 rfl)) (r_iaload (p1 := 169) (p2 := 177) dX1_resolves_177 (rg_X1_455 (p1 := 166) rfl dX1_resolves_166 (r_aload dX1_resolves_164)) (r_iaload (p1 := 174) (p2 := 176) dX1_resolves_176 (rg_X1_164 (p1 := 171) rfl dX1_resolves_171 (r_aload dX1_resolves_169)) (r_iload dX1_resolves_174)))) (r_iaload (p1 := 184) (p2 := 186) dX1_resolves_186 (rg_X1_167 (p1 := 181) rfl dX1_resolves_181 (r_aload dX1_resolves_179)) (r_iload dX1_resolves_184)))))))
  (r_goto (p1 := 192) dX1_resolves_192 rfl (r_iinc dX1_resolves_189 rfl (by decide))))))
  (r_goto (p1 := 198) dX1_resolves_198 rfl (r_iinc dX1_resolves_195 rfl (by decide)))))
  (r_reti (p1 := 202) dX1_resolves_202 (r_iconst dX1_resolves_201 rfl))))
noncomputable def m_X1_resolves : List Value → mj_H → mj_Res := mj_mk (some .boolean) 7 b_X1_resolves
theorem sd_X1_resolves : mj_Snd yX1_resolves (ws_ yX1_resolves cX1_resolves 7 (some .boolean)) 3 m_X1_resolves := mj_snd (own := RX1) (ini := false) (pE := 0) (bk := 0) (cn := 0) rfl (by decide) (fun h => nomatch h) (fun h => nomatch h) cf_X1_resolves
abbrev mi_X1_imageWord : mj_I := (RX1, cX1_imageWord, 2, 1, false, [], (fun _ => true))
noncomputable def b_X1_imageWord : mj_X mj_F :=
  (mx_ret .int (mx_bin o_ior (mx_bin o_ior (mx_bin o_ior (mx_bin o_ishl (mx_ab (mx_getr 0 18 (mx_vr 0)) (mx_v 1)) (mx_k (24 : Int32))) (mx_bin o_ishl (mx_bin o_iand (mx_ab (mx_getr 0 18 (mx_vr 0)) (mx_bin o_iadd (mx_v 1) (mx_k (1 : Int32)))) (mx_k (255 : Int32))) (mx_k (16 : Int32)))) (mx_bin o_ishl (mx_bin o_iand (mx_ab (mx_getr 0 18 (mx_vr 0)) (mx_bin o_iadd (mx_v 1) (mx_k (2 : Int32)))) (mx_k (255 : Int32))) (mx_k (8 : Int32)))) (mx_bin o_iand (mx_ab (mx_getr 0 18 (mx_vr 0)) (mx_bin o_iadd (mx_v 1) (mx_k (3 : Int32)))) (mx_k (255 : Int32)))))
set_option maxRecDepth 100000 in
set_option maxHeartbeats 4000000 in
theorem cf_X1_imageWord : mj_Sm mi_X1_imageWord 0 0 0 0 b_X1_imageWord :=
  (r_reti (p1 := 54) dX1_imageWord_54 (r_ior (p1 := 41) (p2 := 53) dX1_imageWord_53 (r_ior (p1 := 25) (p2 := 40) dX1_imageWord_40 (r_ior (p1 := 9) (p2 := 24) dX1_imageWord_24 (r_ishl (p1 := 6) (p2 := 8) dX1_imageWord_8 (r_baload (p1 := 4) (p2 := 5) dX1_imageWord_5 (rg_X1_27 (p1 := 1) rfl dX1_imageWord_1 (r_aload_n dX1_imageWord_0 rfl)) (r_iload_n dX1_imageWord_4 rfl)) (r_bipush dX1_imageWord_6 rfl)) (r_ishl (p1 := 21) (p2 := 23) dX1_imageWord_23 (r_iand (p1 := 17) (p2 := 20) dX1_imageWord_20 (r_baload (p1 := 13) (p2 := 16) dX1_imageWord_16 (rg_X1_27 (p1 := 10) rfl dX1_imageWord_10 (r_aload_n dX1_imageWord_9 rfl)) (r_iadd (p1 := 14) (p2 := 15) dX1_imageWord_15 (r_iload_n dX1_imageWord_13 rfl) (r_iconst dX1_imageWord_14 rfl))) (r_sipush dX1_imageWord_17 rfl)) (r_bipush dX1_imageWord_21 rfl))) (r_ishl (p1 := 37) (p2 := 39) dX1_imageWord_39 (r_iand (p1 := 33) (p2 := 36) dX1_imageWord_36 (r_baload (p1 := 29) (p2 := 32) dX1_imageWord_32 (rg_X1_27 (p1 := 26) rfl dX1_imageWord_26 (r_aload_n dX1_imageWord_25 rfl)) (r_iadd (p1 := 30) (p2 := 31) dX1_imageWord_31 (r_iload_n dX1_imageWord_29 rfl) (r_iconst dX1_imageWord_30 rfl))) (r_sipush dX1_imageWord_33 rfl)) (r_bipush dX1_imageWord_37 rfl))) (r_iand (p1 := 49) (p2 := 52) dX1_imageWord_52 (r_baload (p1 := 45) (p2 := 48) dX1_imageWord_48 (rg_X1_27 (p1 := 42) rfl dX1_imageWord_42 (r_aload_n dX1_imageWord_41 rfl)) (r_iadd (p1 := 46) (p2 := 47) dX1_imageWord_47 (r_iload_n dX1_imageWord_45 rfl) (r_iconst dX1_imageWord_46 rfl))) (r_sipush dX1_imageWord_49 rfl))))
noncomputable def m_X1_imageWord : List Value → mj_H → mj_Res := mj_mk (some .int) 2 b_X1_imageWord
theorem sd_X1_imageWord : mj_Snd yX1_imageWord (ws_ yX1_imageWord cX1_imageWord 2 (some .int)) 1 m_X1_imageWord := mj_snd (own := RX1) (ini := false) (pE := 0) (bk := 0) (cn := 0) rfl (by decide) (fun h => nomatch h) (fun h => nomatch h) cf_X1_imageWord
abbrev mi_X1_setImage : mj_I := (RX1, cX1_setImage, 4, 1, false, [], (fun _ => true))
noncomputable def b_X1_setImage : mj_X mj_F :=
  (mx_seq (mx_set 3 (mx_k (0 : Int32)))
  (mx_loop (mx_cmp c_lt (mx_v 3) (mx_k (4 : Int32)))
  (mx_bst (mx_getr 0 18 (mx_vr 0)) (mx_bin o_iadd (mx_v 1) (mx_v 3)) (mx_un o_i2b (mx_bin o_ishr (mx_v 2) (mx_bin o_isub (mx_k (24 : Int32)) (mx_bin o_imul (mx_k (8 : Int32)) (mx_v 3))))))
  (mx_inc 3 (1 : Int32))))
set_option maxRecDepth 100000 in
set_option maxHeartbeats 4000000 in
theorem cf_X1_setImage : mj_Sm mi_X1_setImage 0 31 0 0 b_X1_setImage :=
  (r_seq (p1 := 2) (r_istore_n (p1 := 1) dX1_setImage_1 rfl (by decide) (r_iconst dX1_setImage_0 rfl))
  (r_loop (p1 := 7) (p2 := 25) (pE := 31) (r_clt_f (p1 := 3) (p2 := 4) dX1_setImage_4 rfl (r_iload_n dX1_setImage_2 rfl) (r_iconst dX1_setImage_3 rfl))
  (r_bastore (p1 := 11) (p2 := 14) (p3 := 24) dX1_setImage_24 (rg_X1_27 (p1 := 8) rfl dX1_setImage_8 (r_aload_n dX1_setImage_7 rfl)) (r_iadd (p1 := 12) (p2 := 13) dX1_setImage_13 (r_iload_n dX1_setImage_11 rfl) (r_iload_n dX1_setImage_12 rfl)) (r_i2b (p2 := 23) dX1_setImage_23 (r_ishr (p1 := 15) (p2 := 22) dX1_setImage_22 (r_iload_n dX1_setImage_14 rfl) (r_isub (p1 := 17) (p2 := 21) dX1_setImage_21 (r_bipush dX1_setImage_15 rfl) (r_imul (p1 := 19) (p2 := 20) dX1_setImage_20 (r_bipush dX1_setImage_17 rfl) (r_iload_n dX1_setImage_19 rfl))))))
  (r_goto (p1 := 28) dX1_setImage_28 rfl (r_iinc dX1_setImage_25 rfl (by decide)))))
noncomputable def m_X1_setImage : List Value → mj_H → mj_Res := mj_mk none 4 b_X1_setImage
theorem sd_X1_setImage : mj_Snd yX1_setImage (ws_ yX1_setImage cX1_setImage 4 none) 1 m_X1_setImage := mj_snd (own := RX1) (ini := false) (pE := 31) (bk := 0) (cn := 0) rfl (by decide) (fun h => nomatch h) (fun _ => dX1_setImage_31) cf_X1_setImage
theorem rk_X1_479 {μ : mj_I} {j p0 p1 p2 : Nat} {O : mj_X (Option Nat)} {Es : mj_X (List Value)} (ho : μ.1 = RX1) (hlen : ∀ σ, mj_ln 1 (Es σ)) (hfr : 2 ≤ μ.2.2.2.1) (hj : j ≤ 8) (hrg : μ.2.2.2.2.2.2 p2 = true) (d : decode μ.2.1 p2 = .ok (.invokevirtual 479, 3)) (e1 : mj_E va_rf μ j p0 p1 O) (e2 : mj_Ar μ (j + 1) p1 p2 Es) : mj_Ec μ j p0 (p2 + 3) (mx_cv 0 m_X1_imageWord O Es) := r_callV (y := yX1_imageWord) (ccy := cX1_imageWord) (nLy := 2) (fry := 1) (n := 1) (ci := 0) (rety := (some .int)) sd_X1_imageWord rfl (by decide) (by rw [ho]; exact lw_V q880 q882 qs59 q119 q883) (by decide +kernel) (by decide) hlen hfr hj hrg d e1 e2
theorem rk_X1_486 {μ : mj_I} {j p0 p1 p2 : Nat} {O : mj_X (Option Nat)} {Es : mj_X (List Value)} (ho : μ.1 = RX1) (hlen : ∀ σ, mj_ln 2 (Es σ)) (hfr : 2 ≤ μ.2.2.2.1) (hj : j ≤ 8) (hrg : μ.2.2.2.2.2.2 p2 = true) (d : decode μ.2.1 p2 = .ok (.invokevirtual 486, 3)) (e1 : mj_E va_rf μ j p0 p1 O) (e2 : mj_Ar μ (j + 1) p1 p2 Es) : mj_Ec μ j p0 (p2 + 3) (mx_cv 0 m_X1_setImage O Es) := r_callV (y := yX1_setImage) (ccy := cX1_setImage) (nLy := 4) (fry := 1) (n := 2) (ci := 0) (rety := none) sd_X1_setImage rfl (by decide) (by rw [ho]; exact lw_V q888 q890 qs60 q119 q891) (by decide +kernel) (by decide) hlen hfr hj hrg d e1 e2
abbrev mi_X1_fills : mj_I := (RX1, cX1_fills, 9, 2, false, [], (fun _ => true))
noncomputable def b_X1_fills : mj_X mj_F :=
  (mx_seq (mx_seq (mx_set 1 (mx_k (0 : Int32)))
  (mx_loop (mx_cmp c_lt (mx_v 1) (mx_get 0 6 (mx_vr 0)))
  (mx_seq (mx_setr 2 (mx_ar (mx_getr 0 5 (mx_vr 0)) (mx_v 1)))
  (mx_seq (mx_set 3 (mx_k (0 : Int32)))
  (mx_loop (mx_cmp c_lt (mx_v 3) (mx_get 1 17 (mx_vr 2)))
  (mx_seq (mx_set 4 (mx_bin o_iadd (mx_ai (mx_getr 1 9 (mx_vr 2)) (mx_ai (mx_getr 1 11 (mx_vr 2)) (mx_v 3))) (mx_ai (mx_getr 1 12 (mx_vr 2)) (mx_v 3))))
  (mx_seq (mx_set 5 (mx_bin o_iadd (mx_ai (mx_getr 1 8 (mx_vr 2)) (mx_ai (mx_getr 1 14 (mx_vr 2)) (mx_v 3))) (mx_ai (mx_getr 1 15 (mx_vr 2)) (mx_v 3))))
  (mx_seq (mx_set 6 (mx_bin o_iadd (mx_bin o_iadd (mx_get 0 20 (mx_vr 0)) (mx_v 4)) (mx_k (4 : Int32))))
  (mx_seq (mx_set 7 (mx_asi (mx_cv 0 m_X1_imageWord (mx_vr 0) (mx_cons .int (mx_v 4) mx_nil))))
  (mx_seq (mx_sw (mx_ai (mx_getr 1 13 (mx_vr 2)) (mx_v 3)) (((2 : Int), (mx_seq (mx_set 7 (mx_v 5))
  mx_brk)) ::
   (((5 : Int), (mx_seq (mx_set 7 (mx_bin o_ior (mx_v 7) (mx_bin o_iushr (mx_bin o_iadd (mx_v 5) (mx_k (32768 : Int32))) (mx_k (16 : Int32)))))
  mx_brk)) ::
   (((6 : Int), (mx_seq (mx_set 7 (mx_bin o_ior (mx_v 7) (mx_bin o_iand (mx_v 5) (mx_k (65535 : Int32)))))
  mx_brk)) ::
   (((4 : Int), (mx_seq (mx_if (mx_cmp c_ne (mx_bin o_iand (mx_bin o_ixor (mx_v 5) (mx_v 6)) (mx_k (-268435453 : Int32))) (mx_bin o_iand (mx_v 6) (mx_k (3 : Int32))))
   (mx_ret .int (mx_asi (mx_cv 0 m_X1_failed (mx_vr 0) (mx_cons .int (mx_k (3 : Int32)) (mx_cons .int (mx_v 1) (mx_cons .int (mx_v 3) mx_nil))))))
   mx_skip)
  (mx_seq (mx_set 7 (mx_bin o_ior (mx_v 7) (mx_bin o_iand (mx_bin o_iushr (mx_v 5) (mx_k (2 : Int32))) (mx_k (67108863 : Int32)))))
  mx_brk))) ::
   []))))
   (mx_seq (mx_set 8 (mx_bin o_isub (mx_v 5) (mx_v 6)))
  (mx_seq (mx_if (mx_or (mx_or (mx_is z_ne (mx_bin o_iand (mx_v 8) (mx_k (3 : Int32)))) (mx_cmp c_lt (mx_v 8) (mx_k (-131072 : Int32)))) (mx_cmp c_ge (mx_v 8) (mx_k (131072 : Int32))))
   (mx_ret .int (mx_asi (mx_cv 0 m_X1_failed (mx_vr 0) (mx_cons .int (mx_k (3 : Int32)) (mx_cons .int (mx_v 1) (mx_cons .int (mx_v 3) mx_nil))))))
   mx_skip)
  (mx_seq (mx_set 7 (mx_bin o_ior (mx_v 7) (mx_bin o_iand (mx_bin o_ishr (mx_v 8) (mx_k (2 : Int32))) (mx_k (65535 : Int32)))))
  mx_brk))))
  (mx_void (mx_cv 0 m_X1_setImage (mx_vr 0) (mx_cons .int (mx_v 4) (mx_cons .int (mx_v 7) mx_nil)))))))))
  (mx_inc 3 (1 : Int32)))))
  (mx_inc 1 (1 : Int32))))
  (mx_ret .int (mx_k (1 : Int32))))
set_option maxRecDepth 100000 in
set_option maxHeartbeats 4000000 in
theorem cf_X1_fills : mj_Sm mi_X1_fills 0 0 0 0 b_X1_fills :=
  (r_seq (p1 := 277) (r_seq (p1 := 2) (r_istore_n (p1 := 1) dX1_fills_1 rfl (by decide) (r_iconst dX1_fills_0 rfl))
  (r_loop (p1 := 10) (p2 := 271) (pE := 277) (r_clt_f (p1 := 3) (p2 := 7) dX1_fills_7 rfl (r_iload_n dX1_fills_2 rfl) (rg_X1_429 (p1 := 4) rfl dX1_fills_4 (r_aload_n dX1_fills_3 rfl)))
  (r_seq (p1 := 17) (r_astore_n (p1 := 16) dX1_fills_16 rfl (by decide) (r_aaload (p1 := 14) (p2 := 15) dX1_fills_15 (rg_X1_15 (p1 := 11) rfl dX1_fills_11 (r_aload_n dX1_fills_10 rfl)) (r_iload_n dX1_fills_14 rfl)))
  (r_seq (p1 := 19) (r_istore_n (p1 := 18) dX1_fills_18 rfl (by decide) (r_iconst dX1_fills_17 rfl))
  (r_loop (p1 := 27) (p2 := 265) (pE := 271) (r_clt_f (p1 := 20) (p2 := 24) dX1_fills_24 rfl (r_iload_n dX1_fills_19 rfl) (rg_X1_214 (p1 := 21) rfl dX1_fills_21 (r_aload_n dX1_fills_20 rfl)))
  (r_seq (p1 := 47) (r_istore (p1 := 45) dX1_fills_45 (by decide) (r_iadd (p1 := 38) (p2 := 44) dX1_fills_44 (r_iaload (p1 := 31) (p2 := 37) dX1_fills_37 (rg_X1_455 (p1 := 28) rfl dX1_fills_28 (r_aload_n dX1_fills_27 rfl)) (r_iaload (p1 := 35) (p2 := 36) dX1_fills_36 (rg_X1_217 (p1 := 32) rfl dX1_fills_32 (r_aload_n dX1_fills_31 rfl)) (r_iload_n dX1_fills_35 rfl))) (r_iaload (p1 := 42) (p2 := 43) dX1_fills_43 (rg_X1_220 (p1 := 39) rfl dX1_fills_39 (r_aload_n dX1_fills_38 rfl)) (r_iload_n dX1_fills_42 rfl))))
  (r_seq (p1 := 67) (r_istore (p1 := 65) dX1_fills_65 (by decide) (r_iadd (p1 := 58) (p2 := 64) dX1_fills_64 (r_iaload (p1 := 51) (p2 := 57) dX1_fills_57 (rg_X1_473 (p1 := 48) rfl dX1_fills_48 (r_aload_n dX1_fills_47 rfl)) (r_iaload (p1 := 55) (p2 := 56) dX1_fills_56 (rg_X1_226 (p1 := 52) rfl dX1_fills_52 (r_aload_n dX1_fills_51 rfl)) (r_iload_n dX1_fills_55 rfl))) (r_iaload (p1 := 62) (p2 := 63) dX1_fills_63 (rg_X1_229 (p1 := 59) rfl dX1_fills_59 (r_aload_n dX1_fills_58 rfl)) (r_iload_n dX1_fills_62 rfl))))
  (r_seq (p1 := 78) (r_istore (p1 := 76) dX1_fills_76 (by decide) (r_iadd (p1 := 74) (p2 := 75) dX1_fills_75 (r_iadd (p1 := 71) (p2 := 73) dX1_fills_73 (rg_X1_476 (p1 := 68) rfl dX1_fills_68 (r_aload_n dX1_fills_67 rfl)) (r_iload dX1_fills_71)) (r_iconst dX1_fills_74 rfl)))
  (r_seq (p1 := 86) (r_istore (p1 := 84) dX1_fills_84 (by decide) (r_asi (rk_X1_479 (p1 := 79) (p2 := 81) rfl (r_lenS r_len0) (by decide) (by decide) rfl dX1_fills_81 (r_aload_n dX1_fills_78 rfl) (r_cons (p1 := 81) mj_wi (r_iload dX1_fills_79) r_nil))))
  (r_seq (p1 := 257) (r_sw (p1 := 92) (pD := 204) (pE := 257) dX1_fills_92 (r_csS (off := 36) (tgt := 128) (by decide) (by decide +kernel) (by decide) (r_seq (p1 := 132) (r_istore (p1 := 130) dX1_fills_130 (by decide) (r_iload dX1_fills_128))
  (r_brk dX1_fills_132 rfl))
   (r_csS (off := 43) (tgt := 135) (by decide) (by decide +kernel) (by decide) (r_seq (p1 := 148) (r_istore (p1 := 146) dX1_fills_146 (by decide) (r_ior (p1 := 137) (p2 := 145) dX1_fills_145 (r_iload dX1_fills_135) (r_iushr (p1 := 142) (p2 := 144) dX1_fills_144 (r_iadd (p1 := 139) (p2 := 141) dX1_fills_141 (r_iload dX1_fills_137) (r_ldc dX1_fills_139 q143)) (r_bipush dX1_fills_142 rfl))))
  (r_brk dX1_fills_148 rfl))
   (r_csS (off := 59) (tgt := 151) (by decide) (by decide +kernel) (by decide) (r_seq (p1 := 161) (r_istore (p1 := 159) dX1_fills_159 (by decide) (r_ior (p1 := 153) (p2 := 158) dX1_fills_158 (r_iload dX1_fills_151) (r_iand (p1 := 155) (p2 := 157) dX1_fills_157 (r_iload dX1_fills_153) (r_ldc dX1_fills_155 q685))))
  (r_brk dX1_fills_161 rfl))
   (r_csS (off := 72) (tgt := 164) (by decide) (by decide +kernel) (by decide) (r_seq (p1 := 188) (r_if (p1 := 180) (p2 := 188) (p3 := 188) (r_cne_f (p1 := 173) (p2 := 177) dX1_fills_177 rfl (r_iand (p1 := 169) (p2 := 172) dX1_fills_172 (r_ixor (p1 := 166) (p2 := 168) dX1_fills_168 (r_iload dX1_fills_164) (r_iload dX1_fills_166)) (r_ldcw dX1_fills_169 q884)) (r_iand (p1 := 175) (p2 := 176) dX1_fills_176 (r_iload dX1_fills_173) (r_iconst dX1_fills_175 rfl)))
   (r_reti (p1 := 187) dX1_fills_187 (r_asi (rk_X1_469 (p1 := 181) (p2 := 184) rfl (r_lenS (r_lenS (r_lenS r_len0))) (by decide) (by decide) rfl dX1_fills_184 (r_aload_n dX1_fills_180 rfl) (r_cons (p1 := 182) mj_wi (r_iconst dX1_fills_181 rfl) (r_cons (p1 := 183) mj_wi (r_iload_n dX1_fills_182 rfl) (r_cons (p1 := 184) mj_wi (r_iload_n dX1_fills_183 rfl) r_nil))))))
   r_skip)
  (r_seq (p1 := 201) (r_istore (p1 := 199) dX1_fills_199 (by decide) (r_ior (p1 := 190) (p2 := 198) dX1_fills_198 (r_iload dX1_fills_188) (r_iand (p1 := 194) (p2 := 197) dX1_fills_197 (r_iushr (p1 := 192) (p2 := 193) dX1_fills_193 (r_iload dX1_fills_190) (r_iconst dX1_fills_192 rfl)) (r_ldcw dX1_fills_194 q885))))
  (r_brk dX1_fills_201 rfl)))
   r_cs0)))) (by decide) (by decide +kernel) (r_seq (p1 := 211) (r_istore (p1 := 209) dX1_fills_209 (by decide) (r_isub (p1 := 206) (p2 := 208) dX1_fills_208 (r_iload dX1_fills_204) (r_iload dX1_fills_206)))
  (r_seq (p1 := 242) (r_if (p1 := 234) (p2 := 242) (p3 := 242) (r_or (p1 := 226) (p2 := 234) (p3 := 242) (r_or (p1 := 218) (p2 := 234) (p3 := 226) (r_zne_t (p1 := 215) dX1_fills_215 rfl (r_iand (p1 := 213) (p2 := 214) dX1_fills_214 (r_iload dX1_fills_211) (r_iconst dX1_fills_213 rfl))) (r_clt_t (p1 := 220) (p2 := 223) dX1_fills_223 rfl (r_iload dX1_fills_218) (r_ldcw dX1_fills_220 q886))) (r_cge_f (p1 := 228) (p2 := 231) dX1_fills_231 rfl (r_iload dX1_fills_226) (r_ldcw dX1_fills_228 q887)))
   (r_reti (p1 := 241) dX1_fills_241 (r_asi (rk_X1_469 (p1 := 235) (p2 := 238) rfl (r_lenS (r_lenS (r_lenS r_len0))) (by decide) (by decide) rfl dX1_fills_238 (r_aload_n dX1_fills_234 rfl) (r_cons (p1 := 236) mj_wi (r_iconst dX1_fills_235 rfl) (r_cons (p1 := 237) mj_wi (r_iload_n dX1_fills_236 rfl) (r_cons (p1 := 238) mj_wi (r_iload_n dX1_fills_237 rfl) r_nil))))))
   r_skip)
  (r_seq (p1 := 254) (r_istore (p1 := 252) dX1_fills_252 (by decide) (r_ior (p1 := 244) (p2 := 251) dX1_fills_251 (r_iload dX1_fills_242) (r_iand (p1 := 248) (p2 := 250) dX1_fills_250 (r_ishr (p1 := 246) (p2 := 247) dX1_fills_247 (r_iload dX1_fills_244) (r_iconst dX1_fills_246 rfl)) (r_ldc dX1_fills_248 q685))))
  (r_brk dX1_fills_254 rfl)))) (r_iaload (p1 := 90) (p2 := 91) dX1_fills_91 (rg_X1_223 (p1 := 87) rfl dX1_fills_87 (r_aload_n dX1_fills_86 rfl)) (r_iload_n dX1_fills_90 rfl)))
  (r_void (rk_X1_486 (p1 := 258) (p2 := 262) rfl (r_lenS (r_lenS r_len0)) (by decide) (by decide) rfl dX1_fills_262 (r_aload_n dX1_fills_257 rfl) (r_cons (p1 := 260) mj_wi (r_iload dX1_fills_258) (r_cons (p1 := 262) mj_wi (r_iload dX1_fills_260) r_nil)))))))))
  (r_goto (p1 := 268) dX1_fills_268 rfl (r_iinc dX1_fills_265 rfl (by decide))))))
  (r_goto (p1 := 274) dX1_fills_274 rfl (r_iinc dX1_fills_271 rfl (by decide)))))
  (r_reti (p1 := 278) dX1_fills_278 (r_iconst dX1_fills_277 rfl)))
noncomputable def m_X1_fills : List Value → mj_H → mj_Res := mj_mk (some .boolean) 9 b_X1_fills
theorem sd_X1_fills : mj_Snd yX1_fills (ws_ yX1_fills cX1_fills 9 (some .boolean)) 2 m_X1_fills := mj_snd (own := RX1) (ini := false) (pE := 0) (bk := 0) (cn := 0) rfl (by decide) (fun h => nomatch h) (fun h => nomatch h) cf_X1_fills
theorem rk_X1_489 {μ : mj_I} {j p0 p1 p2 : Nat} {O : mj_X (Option Nat)} {Es : mj_X (List Value)} (ho : μ.1 = RX1) (hlen : ∀ σ, mj_ln 0 (Es σ)) (hfr : 2 ≤ μ.2.2.2.1) (hj : j ≤ 8) (hrg : μ.2.2.2.2.2.2 p2 = true) (d : decode μ.2.1 p2 = .ok (.invokevirtual 489, 3)) (e1 : mj_E va_rf μ j p0 p1 O) (e2 : mj_Ar μ (j + 1) p1 p2 Es) : mj_Ec μ j p0 (p2 + 3) (mx_cv 0 m_X1_layOut O Es) := r_callV (y := yX1_layOut) (ccy := cX1_layOut) (nLy := 4) (fry := 1) (n := 0) (ci := 0) (rety := (some .int)) sd_X1_layOut rfl (by decide) (by rw [ho]; exact lw_V q860 q862 qs55 q119 q863) (by decide +kernel) (by decide) hlen hfr hj hrg d e1 e2
theorem rk_X1_492 {μ : mj_I} {j p0 p1 p2 : Nat} {O : mj_X (Option Nat)} {Es : mj_X (List Value)} (ho : μ.1 = RX1) (hlen : ∀ σ, mj_ln 0 (Es σ)) (hfr : 4 ≤ μ.2.2.2.1) (hj : j ≤ 8) (hrg : μ.2.2.2.2.2.2 p2 = true) (d : decode μ.2.1 p2 = .ok (.invokevirtual 492, 3)) (e1 : mj_E va_rf μ j p0 p1 O) (e2 : mj_Ar μ (j + 1) p1 p2 Es) : mj_Ec μ j p0 (p2 + 3) (mx_cv 0 m_X1_resolves O Es) := r_callV (y := yX1_resolves) (ccy := cX1_resolves) (nLy := 7) (fry := 3) (n := 0) (ci := 0) (rety := (some .boolean)) sd_X1_resolves rfl (by decide) (by rw [ho]; exact lw_V q864 q866 qs56 q119 q867) (by decide +kernel) (by decide) hlen hfr hj hrg d e1 e2
theorem rk_X1_495 {μ : mj_I} {j p0 p1 p2 : Nat} {O : mj_X (Option Nat)} {Es : mj_X (List Value)} (ho : μ.1 = RX1) (hlen : ∀ σ, mj_ln 0 (Es σ)) (hfr : 3 ≤ μ.2.2.2.1) (hj : j ≤ 8) (hrg : μ.2.2.2.2.2.2 p2 = true) (d : decode μ.2.1 p2 = .ok (.invokevirtual 495, 3)) (e1 : mj_E va_rf μ j p0 p1 O) (e2 : mj_Ar μ (j + 1) p1 p2 Es) : mj_Ec μ j p0 (p2 + 3) (mx_cv 0 m_X1_fills O Es) := r_callV (y := yX1_fills) (ccy := cX1_fills) (nLy := 9) (fry := 2) (n := 0) (ci := 0) (rety := (some .boolean)) sd_X1_fills rfl (by decide) (by rw [ho]; exact lw_V q876 q878 qs58 q119 q879) (by decide +kernel) (by decide) hlen hfr hj hrg d e1 e2
abbrev mi_X1_link : mj_I := (RX1, cX1_link, 6, 6, false, [], (fun _ => true))
noncomputable def b_X1_link : mj_X mj_F :=
  (mx_seq (mx_if (mx_is z_ne (mx_bin o_iand (mx_v 1) (mx_k (7 : Int32))))
   (mx_thr 4)
   mx_skip)
  (mx_seq (mx_if (mx_is z_eq (mx_get 0 6 (mx_vr 0)))
   (mx_thr 3)
   mx_skip)
  (mx_seq (mx_put 0 20 (mx_vr 0) (mx_v 1))
  (mx_seq (mx_put 0 19 (mx_vr 0) (mx_k (-1 : Int32)))
  (mx_seq (mx_pop (mx_cv 0 m_X1_failed (mx_vr 0) (mx_cons .int (mx_k (0 : Int32)) (mx_cons .int (mx_k (-1 : Int32)) (mx_cons .int (mx_k (-1 : Int32)) mx_nil)))))
  (mx_seq (mx_set 2 (mx_asi (mx_cv 0 m_X1_layOut (mx_vr 0) mx_nil)))
  (mx_seq (mx_if (mx_cmp c_gt (mx_v 2) (mx_k (32768 : Int32)))
   (mx_seq (mx_pop (mx_cv 0 m_X1_failed (mx_vr 0) (mx_cons .int (mx_k (4 : Int32)) (mx_cons .int (mx_k (-1 : Int32)) (mx_cons .int (mx_k (-1 : Int32)) mx_nil)))))
  (mx_ret .int (mx_k (-1 : Int32))))
   mx_skip)
  (mx_seq (mx_if (mx_not (mx_is z_ne (mx_asi (mx_cv 0 m_X1_resolves (mx_vr 0) mx_nil))))
   (mx_ret .int (mx_k (-1 : Int32)))
   mx_skip)
  (mx_seq (mx_seq (mx_set 3 (mx_k (0 : Int32)))
  (mx_loop (mx_cmp c_lt (mx_v 3) (mx_v 2))
  (mx_bst (mx_getr 0 18 (mx_vr 0)) (mx_v 3) (mx_k (0 : Int32)))
  (mx_inc 3 (1 : Int32))))
  (mx_seq (mx_seq (mx_set 3 (mx_k (0 : Int32)))
  (mx_loop (mx_cmp c_lt (mx_v 3) (mx_get 0 6 (mx_vr 0)))
  (mx_seq (mx_set 4 (mx_k (0 : Int32)))
  (mx_loop (mx_cmp c_lt (mx_v 4) (mx_k (2 : Int32)))
  (mx_seq (mx_set 5 (mx_k (0 : Int32)))
  (mx_loop (mx_cmp c_lt (mx_v 5) (mx_ai (mx_getr 1 2 (mx_ar (mx_getr 0 5 (mx_vr 0)) (mx_v 3))) (mx_v 4)))
  (mx_bst (mx_getr 0 18 (mx_vr 0)) (mx_bin o_iadd (mx_ai (mx_getr 1 9 (mx_ar (mx_getr 0 5 (mx_vr 0)) (mx_v 3))) (mx_v 4)) (mx_v 5)) (mx_ab (mx_asr (mx_cv 1 m_X3_bytes (mx_ar (mx_getr 0 5 (mx_vr 0)) (mx_v 3)) (mx_cons .int (mx_v 4) mx_nil))) (mx_v 5)))
  (mx_inc 5 (1 : Int32))))
  (mx_inc 4 (1 : Int32))))
  (mx_inc 3 (1 : Int32))))
  (mx_seq (mx_if (mx_not (mx_is z_ne (mx_asi (mx_cv 0 m_X1_fills (mx_vr 0) mx_nil))))
   (mx_ret .int (mx_k (-1 : Int32)))
   mx_skip)
  (mx_seq (mx_put 0 19 (mx_vr 0) (mx_v 2))
  (mx_seq (mx_put 0 21 (mx_vr 0) (mx_get 0 6 (mx_vr 0)))
  (mx_ret .int (mx_v 2)))))))))))))))
set_option maxRecDepth 100000 in
set_option maxHeartbeats 4000000 in
theorem cf_X1_link : mj_Sm mi_X1_link 0 0 0 0 b_X1_link :=
  (r_seq (p1 := 15) (r_if (p1 := 7) (p2 := 15) (p3 := 15) (r_zne_f (p1 := 4) dX1_link_4 rfl (r_iand (p1 := 1) (p2 := 3) dX1_link_3 (r_iload_n dX1_link_0 rfl) (r_bipush dX1_link_1 rfl)))
   (rt_X1_J4 (by decide) rfl dX1_link_7 dX1_link_10 dX1_link_11 dX1_link_14)
   r_skip)
  (r_seq (p1 := 30) (r_if (p1 := 22) (p2 := 30) (p3 := 30) (r_zeq_f (p1 := 19) dX1_link_19 rfl (rg_X1_429 (p1 := 16) rfl dX1_link_16 (r_aload_n dX1_link_15 rfl)))
   (rt_X1_J3 (by decide) rfl dX1_link_22 dX1_link_25 dX1_link_26 dX1_link_29)
   r_skip)
  (r_seq (p1 := 35) (rp_X1_476 (p1 := 31) (p2 := 32) rfl dX1_link_32 (r_aload_n dX1_link_30 rfl) (r_iload_n dX1_link_31 rfl))
  (r_seq (p1 := 40) (rp_X1_30 (p1 := 36) (p2 := 37) rfl dX1_link_37 (r_aload_n dX1_link_35 rfl) (r_iconst dX1_link_36 rfl))
  (r_seq (p1 := 48) (r_pop (p1 := 47) dX1_link_47 (rk_X1_469 (p1 := 41) (p2 := 44) rfl (r_lenS (r_lenS (r_lenS r_len0))) (by decide) (by decide) rfl dX1_link_44 (r_aload_n dX1_link_40 rfl) (r_cons (p1 := 42) mj_wi (r_iconst dX1_link_41 rfl) (r_cons (p1 := 43) mj_wi (r_iconst dX1_link_42 rfl) (r_cons (p1 := 44) mj_wi (r_iconst dX1_link_43 rfl) r_nil)))))
  (r_seq (p1 := 53) (r_istore_n (p1 := 52) dX1_link_52 rfl (by decide) (r_asi (rk_X1_489 (p1 := 49) (p2 := 49) rfl r_len0 (by decide) (by decide) rfl dX1_link_49 (r_aload_n dX1_link_48 rfl) r_nil)))
  (r_seq (p1 := 69) (r_if (p1 := 59) (p2 := 69) (p3 := 69) (r_cgt_f (p1 := 54) (p2 := 56) dX1_link_56 rfl (r_iload_n dX1_link_53 rfl) (r_ldc dX1_link_54 q143))
   (r_seq (p1 := 67) (r_pop (p1 := 66) dX1_link_66 (rk_X1_469 (p1 := 60) (p2 := 63) rfl (r_lenS (r_lenS (r_lenS r_len0))) (by decide) (by decide) rfl dX1_link_63 (r_aload_n dX1_link_59 rfl) (r_cons (p1 := 61) mj_wi (r_iconst dX1_link_60 rfl) (r_cons (p1 := 62) mj_wi (r_iconst dX1_link_61 rfl) (r_cons (p1 := 63) mj_wi (r_iconst dX1_link_62 rfl) r_nil)))))
  (r_reti (p1 := 68) dX1_link_68 (r_iconst dX1_link_67 rfl)))
   r_skip)
  (r_seq (p1 := 78) (r_if (p1 := 76) (p2 := 78) (p3 := 78) (r_not (r_zne_t (p1 := 73) dX1_link_73 rfl (r_asi (rk_X1_492 (p1 := 70) (p2 := 70) rfl r_len0 (by decide) (by decide) rfl dX1_link_70 (r_aload_n dX1_link_69 rfl) r_nil))))
   (r_reti (p1 := 77) dX1_link_77 (r_iconst dX1_link_76 rfl))
   r_skip)
  (r_seq (p1 := 98) (r_seq (p1 := 80) (r_istore_n (p1 := 79) dX1_link_79 rfl (by decide) (r_iconst dX1_link_78 rfl))
  (r_loop (p1 := 85) (p2 := 92) (pE := 98) (r_clt_f (p1 := 81) (p2 := 82) dX1_link_82 rfl (r_iload_n dX1_link_80 rfl) (r_iload_n dX1_link_81 rfl))
  (r_bastore (p1 := 89) (p2 := 90) (p3 := 91) dX1_link_91 (rg_X1_27 (p1 := 86) rfl dX1_link_86 (r_aload_n dX1_link_85 rfl)) (r_iload_n dX1_link_89 rfl) (r_iconst dX1_link_90 rfl))
  (r_goto (p1 := 95) dX1_link_95 rfl (r_iinc dX1_link_92 rfl (by decide)))))
  (r_seq (p1 := 189) (r_seq (p1 := 100) (r_istore_n (p1 := 99) dX1_link_99 rfl (by decide) (r_iconst dX1_link_98 rfl))
  (r_loop (p1 := 108) (p2 := 183) (pE := 189) (r_clt_f (p1 := 101) (p2 := 105) dX1_link_105 rfl (r_iload_n dX1_link_100 rfl) (rg_X1_429 (p1 := 102) rfl dX1_link_102 (r_aload_n dX1_link_101 rfl)))
  (r_seq (p1 := 111) (r_istore (p1 := 109) dX1_link_109 (by decide) (r_iconst dX1_link_108 rfl))
  (r_loop (p1 := 117) (p2 := 177) (pE := 183) (r_clt_f (p1 := 113) (p2 := 114) dX1_link_114 rfl (r_iload dX1_link_111) (r_iconst dX1_link_113 rfl))
  (r_seq (p1 := 120) (r_istore (p1 := 118) dX1_link_118 (by decide) (r_iconst dX1_link_117 rfl))
  (r_loop (p1 := 137) (p2 := 171) (pE := 177) (r_clt_f (p1 := 122) (p2 := 134) dX1_link_134 rfl (r_iload dX1_link_120) (r_iaload (p1 := 131) (p2 := 133) dX1_link_133 (rg_X1_201 (p1 := 128) rfl dX1_link_128 (r_aaload (p1 := 126) (p2 := 127) dX1_link_127 (rg_X1_15 (p1 := 123) rfl dX1_link_123 (r_aload_n dX1_link_122 rfl)) (r_iload_n dX1_link_126 rfl))) (r_iload dX1_link_131)))
  (r_bastore (p1 := 141) (p2 := 156) (p3 := 170) dX1_link_170 (rg_X1_27 (p1 := 138) rfl dX1_link_138 (r_aload_n dX1_link_137 rfl)) (r_iadd (p1 := 153) (p2 := 155) dX1_link_155 (r_iaload (p1 := 150) (p2 := 152) dX1_link_152 (rg_X1_455 (p1 := 147) rfl dX1_link_147 (r_aaload (p1 := 145) (p2 := 146) dX1_link_146 (rg_X1_15 (p1 := 142) rfl dX1_link_142 (r_aload_n dX1_link_141 rfl)) (r_iload_n dX1_link_145 rfl))) (r_iload dX1_link_150)) (r_iload dX1_link_153)) (r_baload (p1 := 167) (p2 := 169) dX1_link_169 (r_asr (rk_X1_210 (p1 := 162) (p2 := 164) rfl (r_lenS r_len0) (by decide) (by decide) rfl dX1_link_164 (r_aaload (p1 := 160) (p2 := 161) dX1_link_161 (rg_X1_15 (p1 := 157) rfl dX1_link_157 (r_aload_n dX1_link_156 rfl)) (r_iload_n dX1_link_160 rfl)) (r_cons (p1 := 164) mj_wi (r_iload dX1_link_162) r_nil))) (r_iload dX1_link_167)))
  (r_goto (p1 := 174) dX1_link_174 rfl (r_iinc dX1_link_171 rfl (by decide)))))
  (r_goto (p1 := 180) dX1_link_180 rfl (r_iinc dX1_link_177 rfl (by decide)))))
  (r_goto (p1 := 186) dX1_link_186 rfl (r_iinc dX1_link_183 rfl (by decide)))))
  (r_seq (p1 := 198) (r_if (p1 := 196) (p2 := 198) (p3 := 198) (r_not (r_zne_t (p1 := 193) dX1_link_193 rfl (r_asi (rk_X1_495 (p1 := 190) (p2 := 190) rfl r_len0 (by decide) (by decide) rfl dX1_link_190 (r_aload_n dX1_link_189 rfl) r_nil))))
   (r_reti (p1 := 197) dX1_link_197 (r_iconst dX1_link_196 rfl))
   r_skip)
  (r_seq (p1 := 203) (rp_X1_30 (p1 := 199) (p2 := 200) rfl dX1_link_200 (r_aload_n dX1_link_198 rfl) (r_iload_n dX1_link_199 rfl))
  (r_seq (p1 := 211) (rp_X1_498 (p1 := 204) (p2 := 208) rfl dX1_link_208 (r_aload_n dX1_link_203 rfl) (rg_X1_429 (p1 := 205) rfl dX1_link_205 (r_aload_n dX1_link_204 rfl)))
  (r_reti (p1 := 212) dX1_link_212 (r_iload_n dX1_link_211 rfl)))))))))))))))
noncomputable def m_X1_link : List Value → mj_H → mj_Res := mj_mk (some .int) 6 b_X1_link
theorem sd_X1_link : mj_Snd yX1_link (ws_ yX1_link cX1_link 6 (some .int)) 6 m_X1_link := mj_snd (own := RX1) (ini := false) (pE := 0) (bk := 0) (cn := 0) rfl (by decide) (fun h => nomatch h) (fun h => nomatch h) cf_X1_link
abbrev mi_X1_word : mj_I := (RX1, cX1_word, 3, 7, false, [], (fun _ => true))
noncomputable def b_X1_word : mj_X mj_F :=
  (mx_seq (mx_set 2 (mx_bin o_isub (mx_v 1) (mx_get 0 20 (mx_vr 0))))
  (mx_seq (mx_void (mx_cs m_X1_there (mx_cons .int (mx_cond (mx_and (mx_and (mx_is z_eq (mx_bin o_iand (mx_v 1) (mx_k (3 : Int32)))) (mx_is z_ge (mx_v 2))) (mx_cmp c_le (mx_v 2) (mx_bin o_isub (mx_get 0 19 (mx_vr 0)) (mx_k (4 : Int32))))) (mx_k (1 : Int32)) (mx_k (0 : Int32))) mx_nil)))
  (mx_ret .int (mx_asi (mx_cv 0 m_X1_imageWord (mx_vr 0) (mx_cons .int (mx_v 2) mx_nil))))))
set_option maxRecDepth 100000 in
set_option maxHeartbeats 4000000 in
theorem cf_X1_word : mj_Sm mi_X1_word 0 0 0 0 b_X1_word :=
  (r_seq (p1 := 7) (r_istore_n (p1 := 6) dX1_word_6 rfl (by decide) (r_isub (p1 := 1) (p2 := 5) dX1_word_5 (r_iload_n dX1_word_0 rfl) (rg_X1_476 (p1 := 2) rfl dX1_word_2 (r_aload_n dX1_word_1 rfl))))
  (r_seq (p1 := 35) (r_void (rk_X1_445 (p1 := 32) rfl (r_lenS r_len0) (by decide) (by decide) rfl dX1_word_32 (r_cons (p1 := 32) mj_wi (r_cond (p1 := 27) (p2 := 31) (p3 := 32) (r_and (p1 := 17) (p2 := 27) (p3 := 31) (r_and (p1 := 13) (p2 := 17) (p3 := 31) (r_zeq_f (p1 := 10) dX1_word_10 rfl (r_iand (p1 := 8) (p2 := 9) dX1_word_9 (r_iload_n dX1_word_7 rfl) (r_iconst dX1_word_8 rfl))) (r_zge_f (p1 := 14) dX1_word_14 rfl (r_iload_n dX1_word_13 rfl))) (r_cle_f (p1 := 18) (p2 := 24) dX1_word_24 rfl (r_iload_n dX1_word_17 rfl) (r_isub (p1 := 22) (p2 := 23) dX1_word_23 (rg_X1_30 (p1 := 19) rfl dX1_word_19 (r_aload_n dX1_word_18 rfl)) (r_iconst dX1_word_22 rfl)))) (r_egoto (p1 := 28) dX1_word_28 rfl (r_iconst dX1_word_27 rfl)) (r_iconst dX1_word_31 rfl)) r_nil)))
  (r_reti (p1 := 40) dX1_word_40 (r_asi (rk_X1_479 (p1 := 36) (p2 := 37) rfl (r_lenS r_len0) (by decide) (by decide) rfl dX1_word_37 (r_aload_n dX1_word_35 rfl) (r_cons (p1 := 37) mj_wi (r_iload_n dX1_word_36 rfl) r_nil))))))
noncomputable def m_X1_word : List Value → mj_H → mj_Res := mj_mk (some .int) 3 b_X1_word
theorem sd_X1_word : mj_Snd yX1_word (ws_ yX1_word cX1_word 3 (some .int)) 7 m_X1_word := mj_snd (own := RX1) (ini := false) (pE := 0) (bk := 0) (cn := 0) rfl (by decide) (fun h => nomatch h) (fun h => nomatch h) cf_X1_word
abbrev mi_X1_address : mj_I := (RX1, cX1_address, 4, 8, false, [], (fun _ => true))
noncomputable def b_X1_address : mj_X mj_F :=
  (mx_seq (mx_setr 3 (mx_asr (mx_cv 0 m_X1_unitOf (mx_vr 0) (mx_cons .int (mx_v 1) mx_nil))))
  (mx_seq (mx_void (mx_cs m_X1_there (mx_cons .int (mx_cond (mx_and (mx_is z_ge (mx_v 2)) (mx_cmp c_lt (mx_v 2) (mx_get 1 10 (mx_vr 3)))) (mx_k (1 : Int32)) (mx_k (0 : Int32))) mx_nil)))
  (mx_seq (mx_if (mx_or (mx_is z_lt (mx_get 0 19 (mx_vr 0))) (mx_cmp c_ge (mx_v 1) (mx_get 0 21 (mx_vr 0))))
   (mx_thr 3)
   mx_skip)
  (mx_ret .int (mx_ai (mx_getr 1 8 (mx_vr 3)) (mx_v 2))))))
set_option maxRecDepth 100000 in
set_option maxHeartbeats 4000000 in
theorem cf_X1_address : mj_Sm mi_X1_address 0 0 0 0 b_X1_address :=
  (r_seq (p1 := 6) (r_astore_n (p1 := 5) dX1_address_5 rfl (by decide) (r_asr (rk_X1_451 (p1 := 1) (p2 := 2) rfl (r_lenS r_len0) (by decide) (by decide) rfl dX1_address_2 (r_aload_n dX1_address_0 rfl) (r_cons (p1 := 2) mj_wi (r_iload_n dX1_address_1 rfl) r_nil))))
  (r_seq (p1 := 26) (r_void (rk_X1_445 (p1 := 23) rfl (r_lenS r_len0) (by decide) (by decide) rfl dX1_address_23 (r_cons (p1 := 23) mj_wi (r_cond (p1 := 18) (p2 := 22) (p3 := 23) (r_and (p1 := 10) (p2 := 18) (p3 := 22) (r_zge_f (p1 := 7) dX1_address_7 rfl (r_iload_n dX1_address_6 rfl)) (r_clt_f (p1 := 11) (p2 := 15) dX1_address_15 rfl (r_iload_n dX1_address_10 rfl) (rg_X1_154 (p1 := 12) rfl dX1_address_12 (r_aload_n dX1_address_11 rfl)))) (r_egoto (p1 := 19) dX1_address_19 rfl (r_iconst dX1_address_18 rfl)) (r_iconst dX1_address_22 rfl)) r_nil)))
  (r_seq (p1 := 49) (r_if (p1 := 41) (p2 := 49) (p3 := 49) (r_or (p1 := 33) (p2 := 41) (p3 := 49) (r_zlt_t (p1 := 30) dX1_address_30 rfl (rg_X1_30 (p1 := 27) rfl dX1_address_27 (r_aload_n dX1_address_26 rfl))) (r_cge_f (p1 := 34) (p2 := 38) dX1_address_38 rfl (r_iload_n dX1_address_33 rfl) (rg_X1_498 (p1 := 35) rfl dX1_address_35 (r_aload_n dX1_address_34 rfl))))
   (rt_X1_J3 (by decide) rfl dX1_address_41 dX1_address_44 dX1_address_45 dX1_address_48)
   r_skip)
  (r_reti (p1 := 55) dX1_address_55 (r_iaload (p1 := 53) (p2 := 54) dX1_address_54 (rg_X1_473 (p1 := 50) rfl dX1_address_50 (r_aload_n dX1_address_49 rfl)) (r_iload_n dX1_address_53 rfl))))))
noncomputable def m_X1_address : List Value → mj_H → mj_Res := mj_mk (some .int) 4 b_X1_address
theorem sd_X1_address : mj_Snd yX1_address (ws_ yX1_address cX1_address 4 (some .int)) 8 m_X1_address := mj_snd (own := RX1) (ini := false) (pE := 0) (bk := 0) (cn := 0) rfl (by decide) (fun h => nomatch h) (fun h => nomatch h) cf_X1_address
abbrev mi_X1_clear : mj_I := (RX1, cX1_clear, 2, 1, false, [], (fun _ => true))
noncomputable def b_X1_clear : mj_X mj_F :=
  (mx_seq (mx_set 1 (mx_get 0 6 (mx_vr 0)))
  (mx_seq (mx_put 0 6 (mx_vr 0) (mx_k (0 : Int32)))
  (mx_seq (mx_put 0 19 (mx_vr 0) (mx_k (-1 : Int32)))
  (mx_ret .int (mx_v 1)))))
set_option maxRecDepth 100000 in
set_option maxHeartbeats 4000000 in
theorem cf_X1_clear : mj_Sm mi_X1_clear 0 0 0 0 b_X1_clear :=
  (r_seq (p1 := 5) (r_istore_n (p1 := 4) dX1_clear_4 rfl (by decide) (rg_X1_429 (p1 := 1) rfl dX1_clear_1 (r_aload_n dX1_clear_0 rfl)))
  (r_seq (p1 := 10) (rp_X1_429 (p1 := 6) (p2 := 7) rfl dX1_clear_7 (r_aload_n dX1_clear_5 rfl) (r_iconst dX1_clear_6 rfl))
  (r_seq (p1 := 15) (rp_X1_30 (p1 := 11) (p2 := 12) rfl dX1_clear_12 (r_aload_n dX1_clear_10 rfl) (r_iconst dX1_clear_11 rfl))
  (r_reti (p1 := 16) dX1_clear_16 (r_iload_n dX1_clear_15 rfl)))))
noncomputable def m_X1_clear : List Value → mj_H → mj_Res := mj_mk (some .int) 2 b_X1_clear
theorem sd_X1_clear : mj_Snd yX1_clear (ws_ yX1_clear cX1_clear 2 (some .int)) 1 m_X1_clear := mj_snd (own := RX1) (ini := false) (pE := 0) (bk := 0) (cn := 0) rfl (by decide) (fun h => nomatch h) (fun h => nomatch h) cf_X1_clear
abbrev mi_X1_count : mj_I := (RX1, cX1_count, 4, 8, false, [], (fun _ => true))
noncomputable def b_X1_count : mj_X mj_F :=
  (mx_seq (mx_void (mx_cs m_X1_there (mx_cons .int (mx_cond (mx_and (mx_is z_ge (mx_v 1)) (mx_cmp c_lt (mx_v 1) (mx_k (4 : Int32)))) (mx_k (1 : Int32)) (mx_k (0 : Int32))) mx_nil)))
  (mx_seq (mx_if (mx_is z_eq (mx_v 1))
   (mx_ret .int (mx_get 0 1 (mx_vr 0)))
   mx_skip)
  (mx_seq (mx_if (mx_cmp c_eq (mx_v 1) (mx_k (1 : Int32)))
   (mx_ret .int (mx_get 0 6 (mx_vr 0)))
   mx_skip)
  (mx_seq (mx_setr 3 (mx_asr (mx_cv 0 m_X1_unitOf (mx_vr 0) (mx_cons .int (mx_v 2) mx_nil))))
  (mx_ret .int (mx_cond (mx_cmp c_eq (mx_v 1) (mx_k (2 : Int32))) (mx_get 1 10 (mx_vr 3)) (mx_get 1 17 (mx_vr 3))))))))
set_option maxRecDepth 100000 in
set_option maxHeartbeats 4000000 in
theorem cf_X1_count : mj_Sm mi_X1_count 0 0 0 0 b_X1_count :=
  (r_seq (p1 := 17) (r_void (rk_X1_445 (p1 := 14) rfl (r_lenS r_len0) (by decide) (by decide) rfl dX1_count_14 (r_cons (p1 := 14) mj_wi (r_cond (p1 := 9) (p2 := 13) (p3 := 14) (r_and (p1 := 4) (p2 := 9) (p3 := 13) (r_zge_f (p1 := 1) dX1_count_1 rfl (r_iload_n dX1_count_0 rfl)) (r_clt_f (p1 := 5) (p2 := 6) dX1_count_6 rfl (r_iload_n dX1_count_4 rfl) (r_iconst dX1_count_5 rfl))) (r_egoto (p1 := 10) dX1_count_10 rfl (r_iconst dX1_count_9 rfl)) (r_iconst dX1_count_13 rfl)) r_nil)))
  (r_seq (p1 := 26) (r_if (p1 := 21) (p2 := 26) (p3 := 26) (r_zeq_f (p1 := 18) dX1_count_18 rfl (r_iload_n dX1_count_17 rfl))
   (r_reti (p1 := 25) dX1_count_25 (rg_X1_36 (p1 := 22) rfl dX1_count_22 (r_aload_n dX1_count_21 rfl)))
   r_skip)
  (r_seq (p1 := 36) (r_if (p1 := 31) (p2 := 36) (p3 := 36) (r_ceq_f (p1 := 27) (p2 := 28) dX1_count_28 rfl (r_iload_n dX1_count_26 rfl) (r_iconst dX1_count_27 rfl))
   (r_reti (p1 := 35) dX1_count_35 (rg_X1_429 (p1 := 32) rfl dX1_count_32 (r_aload_n dX1_count_31 rfl)))
   r_skip)
  (r_seq (p1 := 42) (r_astore_n (p1 := 41) dX1_count_41 rfl (by decide) (r_asr (rk_X1_451 (p1 := 37) (p2 := 38) rfl (r_lenS r_len0) (by decide) (by decide) rfl dX1_count_38 (r_aload_n dX1_count_36 rfl) (r_cons (p1 := 38) mj_wi (r_iload_n dX1_count_37 rfl) r_nil))))
  (r_reti (p1 := 58) dX1_count_58 (r_cond (p1 := 47) (p2 := 54) (p3 := 58) (r_ceq_f (p1 := 43) (p2 := 44) dX1_count_44 rfl (r_iload_n dX1_count_42 rfl) (r_iconst dX1_count_43 rfl)) (r_egoto (p1 := 51) dX1_count_51 rfl (rg_X1_154 (p1 := 48) rfl dX1_count_48 (r_aload_n dX1_count_47 rfl))) (rg_X1_214 (p1 := 55) rfl dX1_count_55 (r_aload_n dX1_count_54 rfl))))))))
noncomputable def m_X1_count : List Value → mj_H → mj_Res := mj_mk (some .int) 4 b_X1_count
theorem sd_X1_count : mj_Snd yX1_count (ws_ yX1_count cX1_count 4 (some .int)) 8 m_X1_count := mj_snd (own := RX1) (ini := false) (pE := 0) (bk := 0) (cn := 0) rfl (by decide) (fun h => nomatch h) (fun h => nomatch h) cf_X1_count
