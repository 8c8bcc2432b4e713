abbrev mi_X2_fault : mj_I := (RX2, cX2_fault, 2, 2, false, [], (fun _ => true))
noncomputable def b_X2_fault : mj_X mj_F :=
  (mx_seq (mx_put 2 0 (mx_vr 0) (mx_k (0 : Int32)))
  (mx_seq (mx_if (mx_or (mx_is z_lt (mx_v 1)) (mx_cmp c_gt (mx_v 1) (mx_k (4 : Int32))))
   (mx_ret .int (mx_asi (mx_cv 2 m_X2_refuse (mx_vr 0) (mx_cons .int (mx_k (1 : Int32)) mx_nil))))
   mx_skip)
  (mx_ret .int (mx_cond (mx_is z_eq (mx_v 1)) (mx_get 2 22 (mx_vr 0)) (mx_cond (mx_cmp c_eq (mx_v 1) (mx_k (1 : Int32))) (mx_get 2 23 (mx_vr 0)) (mx_cond (mx_cmp c_eq (mx_v 1) (mx_k (2 : Int32))) (mx_get 2 24 (mx_vr 0)) (mx_cond (mx_cmp c_eq (mx_v 1) (mx_k (3 : Int32))) (mx_get 2 25 (mx_vr 0)) (mx_get 2 26 (mx_vr 0)))))))))
set_option maxRecDepth 100000 in
set_option maxHeartbeats 4000000 in
theorem cf_X2_fault : mj_Sm mi_X2_fault 0 0 0 0 b_X2_fault :=
  (r_seq (p1 := 5) (rp_X2_88 (p1 := 1) (p2 := 2) rfl dX2_fault_2 (r_aload_n dX2_fault_0 rfl) (r_iconst dX2_fault_1 rfl))
  (r_seq (p1 := 20) (r_if (p1 := 14) (p2 := 20) (p3 := 20) (r_or (p1 := 9) (p2 := 14) (p3 := 20) (r_zlt_t (p1 := 6) dX2_fault_6 rfl (r_iload_n dX2_fault_5 rfl)) (r_cgt_f (p1 := 10) (p2 := 11) dX2_fault_11 rfl (r_iload_n dX2_fault_9 rfl) (r_iconst dX2_fault_10 rfl)))
   (r_reti (p1 := 19) dX2_fault_19 (r_asi (rk_X2_94 (p1 := 15) (p2 := 16) rfl (r_lenS r_len0) (by decide) (by decide) rfl dX2_fault_16 (r_aload_n dX2_fault_14 rfl) (r_cons (p1 := 16) mj_wi (r_iconst dX2_fault_15 rfl) r_nil))))
   r_skip)
  (r_reti (p1 := 71) dX2_fault_71 (r_cond (p1 := 24) (p2 := 31) (p3 := 71) (r_zeq_f (p1 := 21) dX2_fault_21 rfl (r_iload_n dX2_fault_20 rfl)) (r_egoto (p1 := 28) dX2_fault_28 rfl (rg_X2_982 (p1 := 25) rfl dX2_fault_25 (r_aload_n dX2_fault_24 rfl))) (r_cond (p1 := 36) (p2 := 43) (p3 := 71) (r_ceq_f (p1 := 32) (p2 := 33) dX2_fault_33 rfl (r_iload_n dX2_fault_31 rfl) (r_iconst dX2_fault_32 rfl)) (r_egoto (p1 := 40) dX2_fault_40 rfl (rg_X2_1175 (p1 := 37) rfl dX2_fault_37 (r_aload_n dX2_fault_36 rfl))) (r_cond (p1 := 48) (p2 := 55) (p3 := 71) (r_ceq_f (p1 := 44) (p2 := 45) dX2_fault_45 rfl (r_iload_n dX2_fault_43 rfl) (r_iconst dX2_fault_44 rfl)) (r_egoto (p1 := 52) dX2_fault_52 rfl (rg_X2_1178 (p1 := 49) rfl dX2_fault_49 (r_aload_n dX2_fault_48 rfl))) (r_cond (p1 := 60) (p2 := 67) (p3 := 71) (r_ceq_f (p1 := 56) (p2 := 57) dX2_fault_57 rfl (r_iload_n dX2_fault_55 rfl) (r_iconst dX2_fault_56 rfl)) (r_egoto (p1 := 64) dX2_fault_64 rfl (rg_X2_68 (p1 := 61) rfl dX2_fault_61 (r_aload_n dX2_fault_60 rfl))) (rg_X2_72 (p1 := 68) rfl dX2_fault_68 (r_aload_n dX2_fault_67 rfl)))))))))
noncomputable def m_X2_fault : List Value → mj_H → mj_Res := mj_mk (some .int) 2 b_X2_fault
theorem sd_X2_fault : mj_Snd yX2_fault (ws_ yX2_fault cX2_fault 2 (some .int)) 2 m_X2_fault := mj_snd (own := RX2) (ini := false) (pE := 0) (bk := 0) (cn := 0) rfl (by decide) (fun h => nomatch h) (fun h => nomatch h) cf_X2_fault
abbrev mi_X2_within : mj_I := (RX2, cX2_within, 2, 1, false, [], (fun _ => true))
noncomputable def b_X2_within : mj_X mj_F :=
  (mx_ret .int (mx_cond (mx_and (mx_is z_ge (mx_v 0)) (mx_cmp c_lt (mx_v 0) (mx_v 1))) (mx_k (1 : Int32)) (mx_k (0 : Int32))))
set_option maxRecDepth 100000 in
set_option maxHeartbeats 4000000 in
theorem cf_X2_within : mj_Sm mi_X2_within 0 0 0 0 b_X2_within :=
  (r_reti (p1 := 14) dX2_within_14 (r_cond (p1 := 9) (p2 := 13) (p3 := 14) (r_and (p1 := 4) (p2 := 9) (p3 := 13) (r_zge_f (p1 := 1) dX2_within_1 rfl (r_iload_n dX2_within_0 rfl)) (r_clt_f (p1 := 5) (p2 := 6) dX2_within_6 rfl (r_iload_n dX2_within_4 rfl) (r_iload_n dX2_within_5 rfl))) (r_egoto (p1 := 10) dX2_within_10 rfl (r_iconst dX2_within_9 rfl)) (r_iconst dX2_within_13 rfl)))
noncomputable def m_X2_within : List Value → mj_H → mj_Res := mj_mk (some .boolean) 2 b_X2_within
theorem sd_X2_within : mj_Snd yX2_within (ws_ yX2_within cX2_within 2 (some .boolean)) 1 m_X2_within := mj_snd (own := RX2) (ini := false) (pE := 0) (bk := 0) (cn := 0) rfl (by decide) (fun h => nomatch h) (fun h => nomatch h) cf_X2_within
theorem rk_X2_1181 {μ : mj_I} {j p0 p1 : Nat} {Es : mj_X (List Value)} (ho : μ.1 = RX2) (hlen : ∀ σ, mj_ln 2 (Es σ)) (hfr : 2 ≤ μ.2.2.2.1) (hj : j ≤ 8) (hrg : μ.2.2.2.2.2.2 p1 = true) (d : decode μ.2.1 p1 = .ok (.invokestatic 1181, 3)) (e2 : mj_Ar μ j p0 p1 Es) : mj_Ec μ j p0 (p1 + 3) (mx_cs m_X2_within Es) := r_callS (y := yX2_within) (ccy := cX2_within) (nLy := 2) (fry := 1) (n := 2) (rety := (some .boolean)) sd_X2_within (by rw [ho]; exact lw_S q1758 q1759 q120 q1760) (by decide +kernel) (by decide) hlen hfr hj hrg d e2
abbrev mi_X2_size : mj_I := (RX2, cX2_size, 3, 2, false, [], (fun _ => true))
noncomputable def b_X2_size : mj_X mj_F :=
  (mx_seq (mx_put 2 0 (mx_vr 0) (mx_k (0 : Int32)))
  (mx_ret .int (mx_cond (mx_and (mx_is z_ne (mx_asi (mx_cs m_X2_within (mx_cons .int (mx_v 1) (mx_cons .int (mx_get 2 3 (mx_vr 0)) mx_nil))))) (mx_is z_ne (mx_asi (mx_cs m_X2_within (mx_cons .int (mx_v 2) (mx_cons .int (mx_k (3 : Int32)) mx_nil)))))) (mx_ai (mx_getr 2 6 (mx_vr 0)) (mx_bin o_iadd (mx_bin o_imul (mx_k (3 : Int32)) (mx_v 1)) (mx_v 2))) (mx_asi (mx_cv 2 m_X2_refuse (mx_vr 0) (mx_cons .int (mx_k (1 : Int32)) mx_nil))))))
set_option maxRecDepth 100000 in
set_option maxHeartbeats 4000000 in
theorem cf_X2_size : mj_Sm mi_X2_size 0 0 0 0 b_X2_size :=
  (r_seq (p1 := 5) (rp_X2_88 (p1 := 1) (p2 := 2) rfl dX2_size_2 (r_aload_n dX2_size_0 rfl) (r_iconst dX2_size_1 rfl))
  (r_reti (p1 := 42) dX2_size_42 (r_cond (p1 := 24) (p2 := 37) (p3 := 42) (r_and (p1 := 16) (p2 := 24) (p3 := 37) (r_zne_f (p1 := 13) dX2_size_13 rfl (r_asi (rk_X2_1181 (p1 := 10) rfl (r_lenS (r_lenS r_len0)) (by decide) (by decide) rfl dX2_size_10 (r_cons (p1 := 6) mj_wi (r_iload_n dX2_size_5 rfl) (r_cons (p1 := 10) mj_wi (rg_X2_1010 (p1 := 7) rfl dX2_size_7 (r_aload_n dX2_size_6 rfl)) r_nil))))) (r_zne_f (p1 := 21) dX2_size_21 rfl (r_asi (rk_X2_1181 (p1 := 18) rfl (r_lenS (r_lenS r_len0)) (by decide) (by decide) rfl dX2_size_18 (r_cons (p1 := 17) mj_wi (r_iload_n dX2_size_16 rfl) (r_cons (p1 := 18) mj_wi (r_iconst dX2_size_17 rfl) r_nil)))))) (r_egoto (p1 := 34) dX2_size_34 rfl (r_iaload (p1 := 28) (p2 := 33) dX2_size_33 (rg_X2_17 (p1 := 25) rfl dX2_size_25 (r_aload_n dX2_size_24 rfl)) (r_iadd (p1 := 31) (p2 := 32) dX2_size_32 (r_imul (p1 := 29) (p2 := 30) dX2_size_30 (r_iconst dX2_size_28 rfl) (r_iload_n dX2_size_29 rfl)) (r_iload_n dX2_size_31 rfl)))) (r_asi (rk_X2_94 (p1 := 38) (p2 := 39) rfl (r_lenS r_len0) (by decide) (by decide) rfl dX2_size_39 (r_aload_n dX2_size_37 rfl) (r_cons (p1 := 39) mj_wi (r_iconst dX2_size_38 rfl) r_nil))))))
noncomputable def m_X2_size : List Value → mj_H → mj_Res := mj_mk (some .int) 3 b_X2_size
theorem sd_X2_size : mj_Snd yX2_size (ws_ yX2_size cX2_size 3 (some .int)) 2 m_X2_size := mj_snd (own := RX2) (ini := false) (pE := 0) (bk := 0) (cn := 0) rfl (by decide) (fun h => nomatch h) (fun h => nomatch h) cf_X2_size
abbrev mi_X2_byteAt : mj_I := (RX2, cX2_byteAt, 4, 2, false, [], (fun _ => true))
noncomputable def b_X2_byteAt : mj_X mj_F :=
  (mx_seq (mx_put 2 0 (mx_vr 0) (mx_k (0 : Int32)))
  (mx_ret .int (mx_cond (mx_and (mx_and (mx_is z_ne (mx_asi (mx_cs m_X2_within (mx_cons .int (mx_v 1) (mx_cons .int (mx_get 2 3 (mx_vr 0)) mx_nil))))) (mx_is z_ne (mx_asi (mx_cs m_X2_within (mx_cons .int (mx_v 2) (mx_cons .int (mx_k (2 : Int32)) mx_nil)))))) (mx_is z_ne (mx_asi (mx_cs m_X2_within (mx_cons .int (mx_v 3) (mx_cons .int (mx_ai (mx_getr 2 6 (mx_vr 0)) (mx_bin o_iadd (mx_bin o_imul (mx_k (3 : Int32)) (mx_v 1)) (mx_v 2))) mx_nil)))))) (mx_bin o_iand (mx_ab (mx_getr 2 5 (mx_vr 0)) (mx_bin o_iadd (mx_bin o_imul (mx_k (4096 : Int32)) (mx_bin o_iadd (mx_bin o_imul (mx_k (2 : Int32)) (mx_v 1)) (mx_v 2))) (mx_v 3))) (mx_k (255 : Int32))) (mx_asi (mx_cv 2 m_X2_refuse (mx_vr 0) (mx_cons .int (mx_k (1 : Int32)) mx_nil))))))
set_option maxRecDepth 100000 in
set_option maxHeartbeats 4000000 in
theorem cf_X2_byteAt : mj_Sm mi_X2_byteAt 0 0 0 0 b_X2_byteAt :=
  (r_seq (p1 := 5) (rp_X2_88 (p1 := 1) (p2 := 2) rfl dX2_byteAt_2 (r_aload_n dX2_byteAt_0 rfl) (r_iconst dX2_byteAt_1 rfl))
  (r_reti (p1 := 69) dX2_byteAt_69 (r_cond (p1 := 41) (p2 := 64) (p3 := 69) (r_and (p1 := 24) (p2 := 41) (p3 := 64) (r_and (p1 := 16) (p2 := 24) (p3 := 64) (r_zne_f (p1 := 13) dX2_byteAt_13 rfl (r_asi (rk_X2_1181 (p1 := 10) rfl (r_lenS (r_lenS r_len0)) (by decide) (by decide) rfl dX2_byteAt_10 (r_cons (p1 := 6) mj_wi (r_iload_n dX2_byteAt_5 rfl) (r_cons (p1 := 10) mj_wi (rg_X2_1010 (p1 := 7) rfl dX2_byteAt_7 (r_aload_n dX2_byteAt_6 rfl)) r_nil))))) (r_zne_f (p1 := 21) dX2_byteAt_21 rfl (r_asi (rk_X2_1181 (p1 := 18) rfl (r_lenS (r_lenS r_len0)) (by decide) (by decide) rfl dX2_byteAt_18 (r_cons (p1 := 17) mj_wi (r_iload_n dX2_byteAt_16 rfl) (r_cons (p1 := 18) mj_wi (r_iconst dX2_byteAt_17 rfl) r_nil)))))) (r_zne_f (p1 := 38) dX2_byteAt_38 rfl (r_asi (rk_X2_1181 (p1 := 35) rfl (r_lenS (r_lenS r_len0)) (by decide) (by decide) rfl dX2_byteAt_35 (r_cons (p1 := 25) mj_wi (r_iload_n dX2_byteAt_24 rfl) (r_cons (p1 := 35) mj_wi (r_iaload (p1 := 29) (p2 := 34) dX2_byteAt_34 (rg_X2_17 (p1 := 26) rfl dX2_byteAt_26 (r_aload_n dX2_byteAt_25 rfl)) (r_iadd (p1 := 32) (p2 := 33) dX2_byteAt_33 (r_imul (p1 := 30) (p2 := 31) dX2_byteAt_31 (r_iconst dX2_byteAt_29 rfl) (r_iload_n dX2_byteAt_30 rfl)) (r_iload_n dX2_byteAt_32 rfl))) r_nil)))))) (r_egoto (p1 := 61) dX2_byteAt_61 rfl (r_iand (p1 := 57) (p2 := 60) dX2_byteAt_60 (r_baload (p1 := 45) (p2 := 56) dX2_byteAt_56 (rg_X2_14 (p1 := 42) rfl dX2_byteAt_42 (r_aload_n dX2_byteAt_41 rfl)) (r_iadd (p1 := 54) (p2 := 55) dX2_byteAt_55 (r_imul (p1 := 48) (p2 := 53) dX2_byteAt_53 (r_sipush dX2_byteAt_45 rfl) (r_iadd (p1 := 51) (p2 := 52) dX2_byteAt_52 (r_imul (p1 := 49) (p2 := 50) dX2_byteAt_50 (r_iconst dX2_byteAt_48 rfl) (r_iload_n dX2_byteAt_49 rfl)) (r_iload_n dX2_byteAt_51 rfl))) (r_iload_n dX2_byteAt_54 rfl))) (r_sipush dX2_byteAt_57 rfl))) (r_asi (rk_X2_94 (p1 := 65) (p2 := 66) rfl (r_lenS r_len0) (by decide) (by decide) rfl dX2_byteAt_66 (r_aload_n dX2_byteAt_64 rfl) (r_cons (p1 := 66) mj_wi (r_iconst dX2_byteAt_65 rfl) r_nil))))))
noncomputable def m_X2_byteAt : List Value → mj_H → mj_Res := mj_mk (some .int) 4 b_X2_byteAt
theorem sd_X2_byteAt : mj_Snd yX2_byteAt (ws_ yX2_byteAt cX2_byteAt 4 (some .int)) 2 m_X2_byteAt := mj_snd (own := RX2) (ini := false) (pE := 0) (bk := 0) (cn := 0) rfl (by decide) (fun h => nomatch h) (fun h => nomatch h) cf_X2_byteAt
abbrev mi_X2_symbol : mj_I := (RX2, cX2_symbol, 5, 2, false, [], (fun _ => true))
noncomputable def b_X2_symbol : mj_X mj_F :=
  (mx_seq (mx_put 2 0 (mx_vr 0) (mx_k (0 : Int32)))
  (mx_seq (mx_if (mx_or (mx_or (mx_not (mx_is z_ne (mx_asi (mx_cs m_X2_within (mx_cons .int (mx_v 1) (mx_cons .int (mx_get 2 3 (mx_vr 0)) mx_nil)))))) (mx_not (mx_is z_ne (mx_asi (mx_cs m_X2_within (mx_cons .int (mx_v 2) (mx_cons .int (mx_ai (mx_getr 2 7 (mx_vr 0)) (mx_v 1)) mx_nil))))))) (mx_not (mx_is z_ne (mx_asi (mx_cs m_X2_within (mx_cons .int (mx_v 3) (mx_cons .int (mx_k (4 : Int32)) mx_nil)))))))
   (mx_ret .int (mx_asi (mx_cv 2 m_X2_refuse (mx_vr 0) (mx_cons .int (mx_k (1 : Int32)) mx_nil))))
   mx_skip)
  (mx_seq (mx_set 4 (mx_bin o_iadd (mx_bin o_imul (mx_k (64 : Int32)) (mx_v 1)) (mx_v 2)))
  (mx_ret .int (mx_cond (mx_is z_eq (mx_v 3)) (mx_ai (mx_getr 2 13 (mx_vr 0)) (mx_v 4)) (mx_cond (mx_cmp c_eq (mx_v 3) (mx_k (1 : Int32))) (mx_ai (mx_getr 2 14 (mx_vr 0)) (mx_v 4)) (mx_cond (mx_cmp c_eq (mx_v 3) (mx_k (2 : Int32))) (mx_cond (mx_is z_ne (mx_ab (mx_getr 2 15 (mx_vr 0)) (mx_v 4))) (mx_k (1 : Int32)) (mx_k (0 : Int32))) (mx_ai (mx_getr 2 12 (mx_vr 0)) (mx_v 4)))))))))
set_option maxRecDepth 100000 in
set_option maxHeartbeats 4000000 in
theorem cf_X2_symbol : mj_Sm mi_X2_symbol 0 0 0 0 b_X2_symbol :=
  (r_seq (p1 := 5) (rp_X2_88 (p1 := 1) (p2 := 2) rfl dX2_symbol_2 (r_aload_n dX2_symbol_0 rfl) (r_iconst dX2_symbol_1 rfl))
  (r_seq (p1 := 43) (r_if (p1 := 37) (p2 := 43) (p3 := 43) (r_or (p1 := 29) (p2 := 37) (p3 := 43) (r_or (p1 := 16) (p2 := 37) (p3 := 29) (r_not (r_zne_f (p1 := 13) dX2_symbol_13 rfl (r_asi (rk_X2_1181 (p1 := 10) rfl (r_lenS (r_lenS r_len0)) (by decide) (by decide) rfl dX2_symbol_10 (r_cons (p1 := 6) mj_wi (r_iload_n dX2_symbol_5 rfl) (r_cons (p1 := 10) mj_wi (rg_X2_1010 (p1 := 7) rfl dX2_symbol_7 (r_aload_n dX2_symbol_6 rfl)) r_nil)))))) (r_not (r_zne_f (p1 := 26) dX2_symbol_26 rfl (r_asi (rk_X2_1181 (p1 := 23) rfl (r_lenS (r_lenS r_len0)) (by decide) (by decide) rfl dX2_symbol_23 (r_cons (p1 := 17) mj_wi (r_iload_n dX2_symbol_16 rfl) (r_cons (p1 := 23) mj_wi (r_iaload (p1 := 21) (p2 := 22) dX2_symbol_22 (rg_X2_21 (p1 := 18) rfl dX2_symbol_18 (r_aload_n dX2_symbol_17 rfl)) (r_iload_n dX2_symbol_21 rfl)) r_nil))))))) (r_not (r_zne_t (p1 := 34) dX2_symbol_34 rfl (r_asi (rk_X2_1181 (p1 := 31) rfl (r_lenS (r_lenS r_len0)) (by decide) (by decide) rfl dX2_symbol_31 (r_cons (p1 := 30) mj_wi (r_iload_n dX2_symbol_29 rfl) (r_cons (p1 := 31) mj_wi (r_iconst dX2_symbol_30 rfl) r_nil)))))))
   (r_reti (p1 := 42) dX2_symbol_42 (r_asi (rk_X2_94 (p1 := 38) (p2 := 39) rfl (r_lenS r_len0) (by decide) (by decide) rfl dX2_symbol_39 (r_aload_n dX2_symbol_37 rfl) (r_cons (p1 := 39) mj_wi (r_iconst dX2_symbol_38 rfl) r_nil))))
   r_skip)
  (r_seq (p1 := 51) (r_istore (p1 := 49) dX2_symbol_49 (by decide) (r_iadd (p1 := 47) (p2 := 48) dX2_symbol_48 (r_imul (p1 := 45) (p2 := 46) dX2_symbol_46 (r_bipush dX2_symbol_43 rfl) (r_iload_n dX2_symbol_45 rfl)) (r_iload_n dX2_symbol_47 rfl)))
  (r_reti (p1 := 110) dX2_symbol_110 (r_cond (p1 := 55) (p2 := 65) (p3 := 110) (r_zeq_f (p1 := 52) dX2_symbol_52 rfl (r_iload_n dX2_symbol_51 rfl)) (r_egoto (p1 := 62) dX2_symbol_62 rfl (r_iaload (p1 := 59) (p2 := 61) dX2_symbol_61 (rg_X2_40 (p1 := 56) rfl dX2_symbol_56 (r_aload_n dX2_symbol_55 rfl)) (r_iload dX2_symbol_59))) (r_cond (p1 := 70) (p2 := 80) (p3 := 110) (r_ceq_f (p1 := 66) (p2 := 67) dX2_symbol_67 rfl (r_iload_n dX2_symbol_65 rfl) (r_iconst dX2_symbol_66 rfl)) (r_egoto (p1 := 77) dX2_symbol_77 rfl (r_iaload (p1 := 74) (p2 := 76) dX2_symbol_76 (rg_X2_43 (p1 := 71) rfl dX2_symbol_71 (r_aload_n dX2_symbol_70 rfl)) (r_iload dX2_symbol_74))) (r_cond (p1 := 85) (p2 := 103) (p3 := 110) (r_ceq_f (p1 := 81) (p2 := 82) dX2_symbol_82 rfl (r_iload_n dX2_symbol_80 rfl) (r_iconst dX2_symbol_81 rfl)) (r_cond (p1 := 95) (p2 := 99) (p3 := 110) (r_zne_f (p1 := 92) dX2_symbol_92 rfl (r_baload (p1 := 89) (p2 := 91) dX2_symbol_91 (rg_X2_46 (p1 := 86) rfl dX2_symbol_86 (r_aload_n dX2_symbol_85 rfl)) (r_iload dX2_symbol_89))) (r_egoto (p1 := 96) dX2_symbol_96 rfl (r_iconst dX2_symbol_95 rfl)) (r_egoto (p1 := 100) dX2_symbol_100 rfl (r_iconst dX2_symbol_99 rfl))) (r_iaload (p1 := 107) (p2 := 109) dX2_symbol_109 (rg_X2_37 (p1 := 104) rfl dX2_symbol_104 (r_aload_n dX2_symbol_103 rfl)) (r_iload dX2_symbol_107)))))))))
noncomputable def m_X2_symbol : List Value → mj_H → mj_Res := mj_mk (some .int) 5 b_X2_symbol
theorem sd_X2_symbol : mj_Snd yX2_symbol (ws_ yX2_symbol cX2_symbol 5 (some .int)) 2 m_X2_symbol := mj_snd (own := RX2) (ini := false) (pE := 0) (bk := 0) (cn := 0) rfl (by decide) (fun h => nomatch h) (fun h => nomatch h) cf_X2_symbol
abbrev mi_X2_letter : mj_I := (RX2, cX2_letter, 9, 2, false, [], (fun _ => true))
noncomputable def b_X2_letter : mj_X mj_F :=
  (mx_seq (mx_put 2 0 (mx_vr 0) (mx_k (0 : Int32)))
  (mx_seq (mx_if (mx_or (mx_or (mx_not (mx_is z_ne (mx_asi (mx_cs m_X2_within (mx_cons .int (mx_v 1) (mx_cons .int (mx_get 2 3 (mx_vr 0)) mx_nil)))))) (mx_not (mx_is z_ne (mx_asi (mx_cs m_X2_within (mx_cons .int (mx_v 2) (mx_cons .int (mx_ai (mx_getr 2 7 (mx_vr 0)) (mx_v 1)) mx_nil))))))) (mx_not (mx_is z_ne (mx_asi (mx_cs m_X2_within (mx_cons .int (mx_v 3) (mx_cons .int (mx_ai (mx_getr 2 12 (mx_vr 0)) (mx_bin o_iadd (mx_bin o_imul (mx_k (64 : Int32)) (mx_v 1)) (mx_v 2))) mx_nil)))))))
   (mx_ret .int (mx_asi (mx_cv 2 m_X2_refuse (mx_vr 0) (mx_cons .int (mx_k (1 : Int32)) mx_nil))))
   mx_skip)
  (mx_seq (mx_set 4 (mx_bin o_iadd (mx_bin o_imul (mx_k (64 : Int32)) (mx_v 1)) (mx_v 2)))
  (mx_seq (mx_setl 5 (mx_cond (mx_cmp c_lt (mx_v 3) (mx_k (8 : Int32))) (mx_al (mx_getr 2 9 (mx_vr 0)) (mx_v 4)) (mx_cond (mx_cmp c_lt (mx_v 3) (mx_k (16 : Int32))) (mx_al (mx_getr 2 10 (mx_vr 0)) (mx_v 4)) (mx_al (mx_getr 2 11 (mx_vr 0)) (mx_v 4)))))
  (mx_seq (mx_set 7 (mx_bin o_isub (mx_ai (mx_getr 2 12 (mx_vr 0)) (mx_v 4)) (mx_bin o_imul (mx_dv 0 o_idiv (mx_v 3) (mx_k (8 : Int32))) (mx_k (8 : Int32)))))
  (mx_seq (mx_set 8 (mx_cond (mx_cmp c_gt (mx_v 7) (mx_k (8 : Int32))) (mx_k (8 : Int32)) (mx_v 7)))
  (mx_ret .int (mx_un o_l2i (mx_bin o_land (mx_bin o_lshr (mx_vl 5) (mx_bin o_imul (mx_k (8 : Int32)) (mx_bin o_isub (mx_bin o_isub (mx_v 8) (mx_k (1 : Int32))) (mx_dv 0 o_irem (mx_v 3) (mx_k (8 : Int32)))))) (mx_k (255 : Int64)))))))))))
set_option maxRecDepth 100000 in
set_option maxHeartbeats 4000000 in
theorem cf_X2_letter : mj_Sm mi_X2_letter 0 0 0 0 b_X2_letter :=
  (r_seq (p1 := 5) (rp_X2_88 (p1 := 1) (p2 := 2) rfl dX2_letter_2 (r_aload_n dX2_letter_0 rfl) (r_iconst dX2_letter_1 rfl))
  (r_seq (p1 := 53) (r_if (p1 := 47) (p2 := 53) (p3 := 53) (r_or (p1 := 29) (p2 := 47) (p3 := 53) (r_or (p1 := 16) (p2 := 47) (p3 := 29) (r_not (r_zne_f (p1 := 13) dX2_letter_13 rfl (r_asi (rk_X2_1181 (p1 := 10) rfl (r_lenS (r_lenS r_len0)) (by decide) (by decide) rfl dX2_letter_10 (r_cons (p1 := 6) mj_wi (r_iload_n dX2_letter_5 rfl) (r_cons (p1 := 10) mj_wi (rg_X2_1010 (p1 := 7) rfl dX2_letter_7 (r_aload_n dX2_letter_6 rfl)) r_nil)))))) (r_not (r_zne_f (p1 := 26) dX2_letter_26 rfl (r_asi (rk_X2_1181 (p1 := 23) rfl (r_lenS (r_lenS r_len0)) (by decide) (by decide) rfl dX2_letter_23 (r_cons (p1 := 17) mj_wi (r_iload_n dX2_letter_16 rfl) (r_cons (p1 := 23) mj_wi (r_iaload (p1 := 21) (p2 := 22) dX2_letter_22 (rg_X2_21 (p1 := 18) rfl dX2_letter_18 (r_aload_n dX2_letter_17 rfl)) (r_iload_n dX2_letter_21 rfl)) r_nil))))))) (r_not (r_zne_t (p1 := 44) dX2_letter_44 rfl (r_asi (rk_X2_1181 (p1 := 41) rfl (r_lenS (r_lenS r_len0)) (by decide) (by decide) rfl dX2_letter_41 (r_cons (p1 := 30) mj_wi (r_iload_n dX2_letter_29 rfl) (r_cons (p1 := 41) mj_wi (r_iaload (p1 := 34) (p2 := 40) dX2_letter_40 (rg_X2_37 (p1 := 31) rfl dX2_letter_31 (r_aload_n dX2_letter_30 rfl)) (r_iadd (p1 := 38) (p2 := 39) dX2_letter_39 (r_imul (p1 := 36) (p2 := 37) dX2_letter_37 (r_bipush dX2_letter_34 rfl) (r_iload_n dX2_letter_36 rfl)) (r_iload_n dX2_letter_38 rfl))) r_nil)))))))
   (r_reti (p1 := 52) dX2_letter_52 (r_asi (rk_X2_94 (p1 := 48) (p2 := 49) rfl (r_lenS r_len0) (by decide) (by decide) rfl dX2_letter_49 (r_aload_n dX2_letter_47 rfl) (r_cons (p1 := 49) mj_wi (r_iconst dX2_letter_48 rfl) r_nil))))
   r_skip)
  (r_seq (p1 := 61) (r_istore (p1 := 59) dX2_letter_59 (by decide) (r_iadd (p1 := 57) (p2 := 58) dX2_letter_58 (r_imul (p1 := 55) (p2 := 56) dX2_letter_56 (r_bipush dX2_letter_53 rfl) (r_iload_n dX2_letter_55 rfl)) (r_iload_n dX2_letter_57 rfl)))
  (r_seq (p1 := 102) (r_lstore (p1 := 100) dX2_letter_100 (by decide) (r_cond (p1 := 67) (p2 := 77) (p3 := 100) (r_clt_f (p1 := 62) (p2 := 64) dX2_letter_64 rfl (r_iload_n dX2_letter_61 rfl) (r_bipush dX2_letter_62 rfl)) (r_egoto (p1 := 74) dX2_letter_74 rfl (r_laload (p1 := 71) (p2 := 73) dX2_letter_73 (rg_X2_27 (p1 := 68) rfl dX2_letter_68 (r_aload_n dX2_letter_67 rfl)) (r_iload dX2_letter_71))) (r_cond (p1 := 83) (p2 := 93) (p3 := 100) (r_clt_f (p1 := 78) (p2 := 80) dX2_letter_80 rfl (r_iload_n dX2_letter_77 rfl) (r_bipush dX2_letter_78 rfl)) (r_egoto (p1 := 90) dX2_letter_90 rfl (r_laload (p1 := 87) (p2 := 89) dX2_letter_89 (rg_X2_31 (p1 := 84) rfl dX2_letter_84 (r_aload_n dX2_letter_83 rfl)) (r_iload dX2_letter_87))) (r_laload (p1 := 97) (p2 := 99) dX2_letter_99 (rg_X2_34 (p1 := 94) rfl dX2_letter_94 (r_aload_n dX2_letter_93 rfl)) (r_iload dX2_letter_97)))))
  (r_seq (p1 := 119) (r_istore (p1 := 117) dX2_letter_117 (by decide) (r_isub (p1 := 109) (p2 := 116) dX2_letter_116 (r_iaload (p1 := 106) (p2 := 108) dX2_letter_108 (rg_X2_37 (p1 := 103) rfl dX2_letter_103 (r_aload_n dX2_letter_102 rfl)) (r_iload dX2_letter_106)) (r_imul (p1 := 113) (p2 := 115) dX2_letter_115 (r_idiv (p1 := 110) (p2 := 112) dX2_letter_112 (r_iload_n dX2_letter_109 rfl) (r_bipush dX2_letter_110 rfl)) (r_bipush dX2_letter_113 rfl))))
  (r_seq (p1 := 135) (r_istore (p1 := 133) dX2_letter_133 (by decide) (r_cond (p1 := 126) (p2 := 131) (p3 := 133) (r_cgt_f (p1 := 121) (p2 := 123) dX2_letter_123 rfl (r_iload dX2_letter_119) (r_bipush dX2_letter_121 rfl)) (r_egoto (p1 := 128) dX2_letter_128 rfl (r_bipush dX2_letter_126 rfl)) (r_iload dX2_letter_131)))
  (r_reti (p1 := 155) dX2_letter_155 (r_l2i (p2 := 154) dX2_letter_154 (r_land (p1 := 150) (p2 := 153) dX2_letter_153 (r_lshr (p1 := 137) (p2 := 149) dX2_letter_149 (r_lload dX2_letter_135) (r_imul (p1 := 139) (p2 := 148) dX2_letter_148 (r_bipush dX2_letter_137 rfl) (r_isub (p1 := 143) (p2 := 147) dX2_letter_147 (r_isub (p1 := 141) (p2 := 142) dX2_letter_142 (r_iload dX2_letter_139) (r_iconst dX2_letter_141 rfl)) (r_irem (p1 := 144) (p2 := 146) dX2_letter_146 (r_iload_n dX2_letter_143 rfl) (r_bipush dX2_letter_144 rfl))))) (r_ldc2 dX2_letter_150 q1742))))))))))
noncomputable def m_X2_letter : List Value → mj_H → mj_Res := mj_mk (some .int) 9 b_X2_letter
theorem sd_X2_letter : mj_Snd yX2_letter (ws_ yX2_letter cX2_letter 9 (some .int)) 2 m_X2_letter := mj_snd (own := RX2) (ini := false) (pE := 0) (bk := 0) (cn := 0) rfl (by decide) (fun h => nomatch h) (fun h => nomatch h) cf_X2_letter
abbrev mi_X2_relocation : mj_I := (RX2, cX2_relocation, 5, 2, false, [], (fun _ => true))
noncomputable def b_X2_relocation : mj_X mj_F :=
  (mx_seq (mx_put 2 0 (mx_vr 0) (mx_k (0 : Int32)))
  (mx_seq (mx_if (mx_or (mx_or (mx_not (mx_is z_ne (mx_asi (mx_cs m_X2_within (mx_cons .int (mx_v 1) (mx_cons .int (mx_get 2 3 (mx_vr 0)) mx_nil)))))) (mx_not (mx_is z_ne (mx_asi (mx_cs m_X2_within (mx_cons .int (mx_v 2) (mx_cons .int (mx_ai (mx_getr 2 8 (mx_vr 0)) (mx_v 1)) mx_nil))))))) (mx_not (mx_is z_ne (mx_asi (mx_cs m_X2_within (mx_cons .int (mx_v 3) (mx_cons .int (mx_k (5 : Int32)) mx_nil)))))))
   (mx_ret .int (mx_asi (mx_cv 2 m_X2_refuse (mx_vr 0) (mx_cons .int (mx_k (1 : Int32)) mx_nil))))
   mx_skip)
  (mx_seq (mx_set 4 (mx_bin o_iadd (mx_bin o_imul (mx_k (256 : Int32)) (mx_v 1)) (mx_v 2)))
  (mx_ret .int (mx_cond (mx_is z_eq (mx_v 3)) (mx_ai (mx_getr 2 16 (mx_vr 0)) (mx_v 4)) (mx_cond (mx_cmp c_eq (mx_v 3) (mx_k (1 : Int32))) (mx_ai (mx_getr 2 17 (mx_vr 0)) (mx_v 4)) (mx_cond (mx_cmp c_eq (mx_v 3) (mx_k (2 : Int32))) (mx_ai (mx_getr 2 18 (mx_vr 0)) (mx_v 4)) (mx_cond (mx_cmp c_eq (mx_v 3) (mx_k (3 : Int32))) (mx_ai (mx_getr 2 19 (mx_vr 0)) (mx_v 4)) (mx_ai (mx_getr 2 20 (mx_vr 0)) (mx_v 4))))))))))
set_option maxRecDepth 100000 in
set_option maxHeartbeats 4000000 in
theorem cf_X2_relocation : mj_Sm mi_X2_relocation 0 0 0 0 b_X2_relocation :=
  (r_seq (p1 := 5) (rp_X2_88 (p1 := 1) (p2 := 2) rfl dX2_relocation_2 (r_aload_n dX2_relocation_0 rfl) (r_iconst dX2_relocation_1 rfl))
  (r_seq (p1 := 43) (r_if (p1 := 37) (p2 := 43) (p3 := 43) (r_or (p1 := 29) (p2 := 37) (p3 := 43) (r_or (p1 := 16) (p2 := 37) (p3 := 29) (r_not (r_zne_f (p1 := 13) dX2_relocation_13 rfl (r_asi (rk_X2_1181 (p1 := 10) rfl (r_lenS (r_lenS r_len0)) (by decide) (by decide) rfl dX2_relocation_10 (r_cons (p1 := 6) mj_wi (r_iload_n dX2_relocation_5 rfl) (r_cons (p1 := 10) mj_wi (rg_X2_1010 (p1 := 7) rfl dX2_relocation_7 (r_aload_n dX2_relocation_6 rfl)) r_nil)))))) (r_not (r_zne_f (p1 := 26) dX2_relocation_26 rfl (r_asi (rk_X2_1181 (p1 := 23) rfl (r_lenS (r_lenS r_len0)) (by decide) (by decide) rfl dX2_relocation_23 (r_cons (p1 := 17) mj_wi (r_iload_n dX2_relocation_16 rfl) (r_cons (p1 := 23) mj_wi (r_iaload (p1 := 21) (p2 := 22) dX2_relocation_22 (rg_X2_24 (p1 := 18) rfl dX2_relocation_18 (r_aload_n dX2_relocation_17 rfl)) (r_iload_n dX2_relocation_21 rfl)) r_nil))))))) (r_not (r_zne_t (p1 := 34) dX2_relocation_34 rfl (r_asi (rk_X2_1181 (p1 := 31) rfl (r_lenS (r_lenS r_len0)) (by decide) (by decide) rfl dX2_relocation_31 (r_cons (p1 := 30) mj_wi (r_iload_n dX2_relocation_29 rfl) (r_cons (p1 := 31) mj_wi (r_iconst dX2_relocation_30 rfl) r_nil)))))))
   (r_reti (p1 := 42) dX2_relocation_42 (r_asi (rk_X2_94 (p1 := 38) (p2 := 39) rfl (r_lenS r_len0) (by decide) (by decide) rfl dX2_relocation_39 (r_aload_n dX2_relocation_37 rfl) (r_cons (p1 := 39) mj_wi (r_iconst dX2_relocation_38 rfl) r_nil))))
   r_skip)
  (r_seq (p1 := 52) (r_istore (p1 := 50) dX2_relocation_50 (by decide) (r_iadd (p1 := 48) (p2 := 49) dX2_relocation_49 (r_imul (p1 := 46) (p2 := 47) dX2_relocation_47 (r_sipush dX2_relocation_43 rfl) (r_iload_n dX2_relocation_46 rfl)) (r_iload_n dX2_relocation_48 rfl)))
  (r_reti (p1 := 118) dX2_relocation_118 (r_cond (p1 := 56) (p2 := 66) (p3 := 118) (r_zeq_f (p1 := 53) dX2_relocation_53 rfl (r_iload_n dX2_relocation_52 rfl)) (r_egoto (p1 := 63) dX2_relocation_63 rfl (r_iaload (p1 := 60) (p2 := 62) dX2_relocation_62 (rg_X2_50 (p1 := 57) rfl dX2_relocation_57 (r_aload_n dX2_relocation_56 rfl)) (r_iload dX2_relocation_60))) (r_cond (p1 := 71) (p2 := 81) (p3 := 118) (r_ceq_f (p1 := 67) (p2 := 68) dX2_relocation_68 rfl (r_iload_n dX2_relocation_66 rfl) (r_iconst dX2_relocation_67 rfl)) (r_egoto (p1 := 78) dX2_relocation_78 rfl (r_iaload (p1 := 75) (p2 := 77) dX2_relocation_77 (rg_X2_53 (p1 := 72) rfl dX2_relocation_72 (r_aload_n dX2_relocation_71 rfl)) (r_iload dX2_relocation_75))) (r_cond (p1 := 86) (p2 := 96) (p3 := 118) (r_ceq_f (p1 := 82) (p2 := 83) dX2_relocation_83 rfl (r_iload_n dX2_relocation_81 rfl) (r_iconst dX2_relocation_82 rfl)) (r_egoto (p1 := 93) dX2_relocation_93 rfl (r_iaload (p1 := 90) (p2 := 92) dX2_relocation_92 (rg_X2_56 (p1 := 87) rfl dX2_relocation_87 (r_aload_n dX2_relocation_86 rfl)) (r_iload dX2_relocation_90))) (r_cond (p1 := 101) (p2 := 111) (p3 := 118) (r_ceq_f (p1 := 97) (p2 := 98) dX2_relocation_98 rfl (r_iload_n dX2_relocation_96 rfl) (r_iconst dX2_relocation_97 rfl)) (r_egoto (p1 := 108) dX2_relocation_108 rfl (r_iaload (p1 := 105) (p2 := 107) dX2_relocation_107 (rg_X2_59 (p1 := 102) rfl dX2_relocation_102 (r_aload_n dX2_relocation_101 rfl)) (r_iload dX2_relocation_105))) (r_iaload (p1 := 115) (p2 := 117) dX2_relocation_117 (rg_X2_62 (p1 := 112) rfl dX2_relocation_112 (r_aload_n dX2_relocation_111 rfl)) (r_iload dX2_relocation_115))))))))))
noncomputable def m_X2_relocation : List Value → mj_H → mj_Res := mj_mk (some .int) 5 b_X2_relocation
theorem sd_X2_relocation : mj_Snd yX2_relocation (ws_ yX2_relocation cX2_relocation 5 (some .int)) 2 m_X2_relocation := mj_snd (own := RX2) (ini := false) (pE := 0) (bk := 0) (cn := 0) rfl (by decide) (fun h => nomatch h) (fun h => nomatch h) cf_X2_relocation
abbrev mi_X2_failed : mj_I := (RX2, cX2_failed, 4, 1, false, [], (fun _ => true))
noncomputable def b_X2_failed : mj_X mj_F :=
  (mx_seq (mx_put 2 24 (mx_vr 0) (mx_v 1))
  (mx_seq (mx_put 2 25 (mx_vr 0) (mx_v 2))
  (mx_seq (mx_put 2 26 (mx_vr 0) (mx_v 3))
  (mx_ret .int (mx_k (-1 : Int32))))))
set_option maxRecDepth 100000 in
set_option maxHeartbeats 4000000 in
theorem cf_X2_failed : mj_Sm mi_X2_failed 0 0 0 0 b_X2_failed :=
  (r_seq (p1 := 5) (rp_X2_1178 (p1 := 1) (p2 := 2) rfl dX2_failed_2 (r_aload_n dX2_failed_0 rfl) (r_iload_n dX2_failed_1 rfl))
  (r_seq (p1 := 10) (rp_X2_68 (p1 := 6) (p2 := 7) rfl dX2_failed_7 (r_aload_n dX2_failed_5 rfl) (r_iload_n dX2_failed_6 rfl))
  (r_seq (p1 := 15) (rp_X2_72 (p1 := 11) (p2 := 12) rfl dX2_failed_12 (r_aload_n dX2_failed_10 rfl) (r_iload_n dX2_failed_11 rfl))
  (r_reti (p1 := 16) dX2_failed_16 (r_iconst dX2_failed_15 rfl)))))
noncomputable def m_X2_failed : List Value → mj_H → mj_Res := mj_mk (some .int) 4 b_X2_failed
theorem sd_X2_failed : mj_Snd yX2_failed (ws_ yX2_failed cX2_failed 4 (some .int)) 1 m_X2_failed := mj_snd (own := RX2) (ini := false) (pE := 0) (bk := 0) (cn := 0) rfl (by decide) (fun h => nomatch h) (fun h => nomatch h) cf_X2_failed
abbrev mi_X2_lay : mj_I := (RX2, cX2_lay, 4, 1, false, [], (fun _ => true))
noncomputable def b_X2_lay : mj_X mj_F :=
  (mx_seq (mx_set 1 (mx_k (0 : Int32)))
  (mx_seq (mx_seq (mx_set 2 (mx_k (0 : Int32)))
  (mx_loop (mx_cmp c_lt (mx_v 2) (mx_k (3 : Int32)))
  (mx_seq (mx_set 3 (mx_k (0 : Int32)))
  (mx_loop (mx_cmp c_lt (mx_v 3) (mx_get 2 3 (mx_vr 0)))
  (mx_seq (mx_if (mx_is z_gt (mx_v 2))
   (mx_set 1 (mx_bin o_iand (mx_bin o_iadd (mx_v 1) (mx_k (7 : Int32))) (mx_k (-8 : Int32))))
   mx_skip)
  (mx_seq (mx_ast (mx_getr 2 31 (mx_vr 0)) (mx_bin o_iadd (mx_bin o_imul (mx_k (3 : Int32)) (mx_v 3)) (mx_v 2)) (mx_v 1))
  (mx_set 1 (mx_bin o_iadd (mx_v 1) (mx_ai (mx_getr 2 6 (mx_vr 0)) (mx_bin o_iadd (mx_bin o_imul (mx_k (3 : Int32)) (mx_v 3)) (mx_v 2)))))))
  (mx_inc 3 (1 : Int32))))
  (mx_inc 2 (1 : Int32))))
  (mx_ret .int (mx_v 1))))
set_option maxRecDepth 100000 in
set_option maxHeartbeats 4000000 in
theorem cf_X2_lay : mj_Sm mi_X2_lay 0 0 0 0 b_X2_lay :=
  (r_seq (p1 := 2) (r_istore_n (p1 := 1) dX2_lay_1 rfl (by decide) (r_iconst dX2_lay_0 rfl))
  (r_seq (p1 := 67) (r_seq (p1 := 4) (r_istore_n (p1 := 3) dX2_lay_3 rfl (by decide) (r_iconst dX2_lay_2 rfl))
  (r_loop (p1 := 9) (p2 := 61) (pE := 67) (r_clt_f (p1 := 5) (p2 := 6) dX2_lay_6 rfl (r_iload_n dX2_lay_4 rfl) (r_iconst dX2_lay_5 rfl))
  (r_seq (p1 := 11) (r_istore_n (p1 := 10) dX2_lay_10 rfl (by decide) (r_iconst dX2_lay_9 rfl))
  (r_loop (p1 := 19) (p2 := 55) (pE := 61) (r_clt_f (p1 := 12) (p2 := 16) dX2_lay_16 rfl (r_iload_n dX2_lay_11 rfl) (rg_X2_1010 (p1 := 13) rfl dX2_lay_13 (r_aload_n dX2_lay_12 rfl)))
  (r_seq (p1 := 31) (r_if (p1 := 23) (p2 := 31) (p3 := 31) (r_zgt_f (p1 := 20) dX2_lay_20 rfl (r_iload_n dX2_lay_19 rfl))
   (r_istore_n (p1 := 30) dX2_lay_30 rfl (by decide) (r_iand (p1 := 27) (p2 := 29) dX2_lay_29 (r_iadd (p1 := 24) (p2 := 26) dX2_lay_26 (r_iload_n dX2_lay_23 rfl) (r_bipush dX2_lay_24 rfl)) (r_bipush dX2_lay_27 rfl)))
   r_skip)
  (r_seq (p1 := 42) (r_iastore (p1 := 35) (p2 := 40) (p3 := 41) dX2_lay_41 (rg_X2_79 (p1 := 32) rfl dX2_lay_32 (r_aload_n dX2_lay_31 rfl)) (r_iadd (p1 := 38) (p2 := 39) dX2_lay_39 (r_imul (p1 := 36) (p2 := 37) dX2_lay_37 (r_iconst dX2_lay_35 rfl) (r_iload_n dX2_lay_36 rfl)) (r_iload_n dX2_lay_38 rfl)) (r_iload_n dX2_lay_40 rfl))
  (r_istore_n (p1 := 54) dX2_lay_54 rfl (by decide) (r_iadd (p1 := 43) (p2 := 53) dX2_lay_53 (r_iload_n dX2_lay_42 rfl) (r_iaload (p1 := 47) (p2 := 52) dX2_lay_52 (rg_X2_17 (p1 := 44) rfl dX2_lay_44 (r_aload_n dX2_lay_43 rfl)) (r_iadd (p1 := 50) (p2 := 51) dX2_lay_51 (r_imul (p1 := 48) (p2 := 49) dX2_lay_49 (r_iconst dX2_lay_47 rfl) (r_iload_n dX2_lay_48 rfl)) (r_iload_n dX2_lay_50 rfl)))))))
  (r_goto (p1 := 58) dX2_lay_58 rfl (r_iinc dX2_lay_55 rfl (by decide)))))
  (r_goto (p1 := 64) dX2_lay_64 rfl (r_iinc dX2_lay_61 rfl (by decide)))))
  (r_reti (p1 := 68) dX2_lay_68 (r_iload_n dX2_lay_67 rfl))))
noncomputable def m_X2_lay : List Value → mj_H → mj_Res := mj_mk (some .int) 4 b_X2_lay
theorem sd_X2_lay : mj_Snd yX2_lay (ws_ yX2_lay cX2_lay 4 (some .int)) 1 m_X2_lay := mj_snd (own := RX2) (ini := false) (pE := 0) (bk := 0) (cn := 0) rfl (by decide) (fun h => nomatch h) (fun h => nomatch h) cf_X2_lay
abbrev mi_X2_sameName : mj_I := (RX2, cX2_sameName, 3, 1, false, [], (fun _ => true))
noncomputable def b_X2_sameName : mj_X mj_F :=
  (mx_ret .int (mx_cond (mx_and (mx_and (mx_and (mx_cmp c_eq (mx_ai (mx_getr 2 12 (mx_vr 0)) (mx_v 1)) (mx_ai (mx_getr 2 12 (mx_vr 0)) (mx_v 2))) (mx_cmp l_eq (mx_al (mx_getr 2 9 (mx_vr 0)) (mx_v 1)) (mx_al (mx_getr 2 9 (mx_vr 0)) (mx_v 2)))) (mx_cmp l_eq (mx_al (mx_getr 2 10 (mx_vr 0)) (mx_v 1)) (mx_al (mx_getr 2 10 (mx_vr 0)) (mx_v 2)))) (mx_cmp l_eq (mx_al (mx_getr 2 11 (mx_vr 0)) (mx_v 1)) (mx_al (mx_getr 2 11 (mx_vr 0)) (mx_v 2)))) (mx_k (1 : Int32)) (mx_k (0 : Int32))))
set_option maxRecDepth 100000 in
set_option maxHeartbeats 4000000 in
theorem cf_X2_sameName : mj_Sm mi_X2_sameName 0 0 0 0 b_X2_sameName :=
  (r_reti (p1 := 68) dX2_sameName_68 (r_cond (p1 := 63) (p2 := 67) (p3 := 68) (r_and (p1 := 47) (p2 := 63) (p3 := 67) (r_and (p1 := 31) (p2 := 47) (p3 := 67) (r_and (p1 := 15) (p2 := 31) (p3 := 67) (r_ceq_f (p1 := 6) (p2 := 12) dX2_sameName_12 rfl (r_iaload (p1 := 4) (p2 := 5) dX2_sameName_5 (rg_X2_37 (p1 := 1) rfl dX2_sameName_1 (r_aload_n dX2_sameName_0 rfl)) (r_iload_n dX2_sameName_4 rfl)) (r_iaload (p1 := 10) (p2 := 11) dX2_sameName_11 (rg_X2_37 (p1 := 7) rfl dX2_sameName_7 (r_aload_n dX2_sameName_6 rfl)) (r_iload_n dX2_sameName_10 rfl))) (r_leq_f (p1 := 21) (p2 := 27) dX2_sameName_27 dX2_sameName_28 rfl (r_laload (p1 := 19) (p2 := 20) dX2_sameName_20 (rg_X2_27 (p1 := 16) rfl dX2_sameName_16 (r_aload_n dX2_sameName_15 rfl)) (r_iload_n dX2_sameName_19 rfl)) (r_laload (p1 := 25) (p2 := 26) dX2_sameName_26 (rg_X2_27 (p1 := 22) rfl dX2_sameName_22 (r_aload_n dX2_sameName_21 rfl)) (r_iload_n dX2_sameName_25 rfl)))) (r_leq_f (p1 := 37) (p2 := 43) dX2_sameName_43 dX2_sameName_44 rfl (r_laload (p1 := 35) (p2 := 36) dX2_sameName_36 (rg_X2_31 (p1 := 32) rfl dX2_sameName_32 (r_aload_n dX2_sameName_31 rfl)) (r_iload_n dX2_sameName_35 rfl)) (r_laload (p1 := 41) (p2 := 42) dX2_sameName_42 (rg_X2_31 (p1 := 38) rfl dX2_sameName_38 (r_aload_n dX2_sameName_37 rfl)) (r_iload_n dX2_sameName_41 rfl)))) (r_leq_f (p1 := 53) (p2 := 59) dX2_sameName_59 dX2_sameName_60 rfl (r_laload (p1 := 51) (p2 := 52) dX2_sameName_52 (rg_X2_34 (p1 := 48) rfl dX2_sameName_48 (r_aload_n dX2_sameName_47 rfl)) (r_iload_n dX2_sameName_51 rfl)) (r_laload (p1 := 57) (p2 := 58) dX2_sameName_58 (rg_X2_34 (p1 := 54) rfl dX2_sameName_54 (r_aload_n dX2_sameName_53 rfl)) (r_iload_n dX2_sameName_57 rfl)))) (r_egoto (p1 := 64) dX2_sameName_64 rfl (r_iconst dX2_sameName_63 rfl)) (r_iconst dX2_sameName_67 rfl)))
noncomputable def m_X2_sameName : List Value → mj_H → mj_Res := mj_mk (some .boolean) 3 b_X2_sameName
theorem sd_X2_sameName : mj_Snd yX2_sameName (ws_ yX2_sameName cX2_sameName 3 (some .boolean)) 1 m_X2_sameName := mj_snd (own := RX2) (ini := false) (pE := 0) (bk := 0) (cn := 0) rfl (by decide) (fun h => nomatch h) (fun h => nomatch h) cf_X2_sameName
theorem rk_X2_1185 {μ : mj_I} {j p0 p1 p2 : Nat} {O : mj_X (Option Nat)} {Es : mj_X (List Value)} (ho : μ.1 = RX2) (hlen : ∀ σ, mj_ln 2 (Es σ)) (hfr : 2 ≤ μ.2.2.2.1) (hj : j ≤ 8) (hrg : μ.2.2.2.2.2.2 p2 = true) (d : decode μ.2.1 p2 = .ok (.invokevirtual 1185, 3)) (e1 : mj_E va_rf μ j p0 p1 O) (e2 : mj_Ar μ (j + 1) p1 p2 Es) : mj_Ec μ j p0 (p2 + 3) (mx_cv 2 m_X2_sameName O Es) := r_callV (y := yX2_sameName) (ccy := cX2_sameName) (nLy := 3) (fry := 1) (n := 2) (ci := 2) (rety := (some .boolean)) sd_X2_sameName rfl (by decide) (by rw [ho]; exact lw_V q1793 q1795 qs114 q120 q1796) (by decide +kernel) (by decide) hlen hfr hj hrg d e1 e2
abbrev mi_X2_other : mj_I := (RX2, cX2_other, 6, 2, false, [], (fun _ => true))
noncomputable def b_X2_other : mj_X mj_F :=
  (mx_seq (mx_seq (mx_set 4 (mx_k (0 : Int32)))
  (mx_loop (mx_cmp c_lt (mx_v 4) (mx_v 3))
  (mx_seq (mx_set 5 (mx_bin o_imul (mx_k (64 : Int32)) (mx_v 4)))
  (mx_loop (mx_and (mx_cmp c_ne (mx_v 4) (mx_v 1)) (mx_cmp c_lt (mx_v 5) (mx_bin o_iadd (mx_bin o_imul (mx_k (64 : Int32)) (mx_v 4)) (mx_ai (mx_getr 2 7 (mx_vr 0)) (mx_v 4)))))
  (mx_if (mx_and (mx_and (mx_is z_ne (mx_ab (mx_getr 2 15 (mx_vr 0)) (mx_v 5))) (mx_cmp c_ne (mx_ai (mx_getr 2 13 (mx_vr 0)) (mx_v 5)) (mx_k (-1 : Int32)))) (mx_is z_ne (mx_asi (mx_cv 2 m_X2_sameName (mx_vr 0) (mx_cons .int (mx_v 5) (mx_cons .int (mx_v 2) mx_nil))))))
   (mx_ret .int (mx_v 5))
   mx_skip)
  (mx_inc 5 (1 : Int32))))
  (mx_inc 4 (1 : Int32))))
  (mx_ret .int (mx_k (-1 : Int32))))
set_option maxRecDepth 100000 in
set_option maxHeartbeats 4000000 in
theorem cf_X2_other : mj_Sm mi_X2_other 0 0 0 0 b_X2_other :=
  (r_seq (p1 := 86) (r_seq (p1 := 3) (r_istore (p1 := 1) dX2_other_1 (by decide) (r_iconst dX2_other_0 rfl))
  (r_loop (p1 := 9) (p2 := 80) (pE := 86) (r_clt_f (p1 := 5) (p2 := 6) dX2_other_6 rfl (r_iload dX2_other_3) (r_iload_n dX2_other_5 rfl))
  (r_seq (p1 := 16) (r_istore (p1 := 14) dX2_other_14 (by decide) (r_imul (p1 := 11) (p2 := 13) dX2_other_13 (r_bipush dX2_other_9 rfl) (r_iload dX2_other_11)))
  (r_loop (p1 := 40) (p2 := 74) (pE := 80) (r_and (p1 := 22) (p2 := 40) (p3 := 80) (r_cne_f (p1 := 18) (p2 := 19) dX2_other_19 rfl (r_iload dX2_other_16) (r_iload_n dX2_other_18 rfl)) (r_clt_f (p1 := 24) (p2 := 37) dX2_other_37 rfl (r_iload dX2_other_22) (r_iadd (p1 := 29) (p2 := 36) dX2_other_36 (r_imul (p1 := 26) (p2 := 28) dX2_other_28 (r_bipush dX2_other_24 rfl) (r_iload dX2_other_26)) (r_iaload (p1 := 33) (p2 := 35) dX2_other_35 (rg_X2_21 (p1 := 30) rfl dX2_other_30 (r_aload_n dX2_other_29 rfl)) (r_iload dX2_other_33)))))
  (r_if (p1 := 71) (p2 := 74) (p3 := 74) (r_and (p1 := 61) (p2 := 71) (p3 := 74) (r_and (p1 := 50) (p2 := 61) (p3 := 74) (r_zne_f (p1 := 47) dX2_other_47 rfl (r_baload (p1 := 44) (p2 := 46) dX2_other_46 (rg_X2_46 (p1 := 41) rfl dX2_other_41 (r_aload_n dX2_other_40 rfl)) (r_iload dX2_other_44))) (r_cne_f (p1 := 57) (p2 := 58) dX2_other_58 rfl (r_iaload (p1 := 54) (p2 := 56) dX2_other_56 (rg_X2_40 (p1 := 51) rfl dX2_other_51 (r_aload_n dX2_other_50 rfl)) (r_iload dX2_other_54)) (r_iconst dX2_other_57 rfl))) (r_zne_f (p1 := 68) dX2_other_68 rfl (r_asi (rk_X2_1185 (p1 := 62) (p2 := 65) rfl (r_lenS (r_lenS r_len0)) (by decide) (by decide) rfl dX2_other_65 (r_aload_n dX2_other_61 rfl) (r_cons (p1 := 64) mj_wi (r_iload dX2_other_62) (r_cons (p1 := 65) mj_wi (r_iload_n dX2_other_64 rfl) r_nil))))))
   (r_reti (p1 := 73) dX2_other_73 (r_iload dX2_other_71))
   r_skip)
  (r_goto (p1 := 77) dX2_other_77 rfl (r_iinc dX2_other_74 rfl (by decide)))))
  (r_goto (p1 := 83) dX2_other_83 rfl (r_iinc dX2_other_80 rfl (by decide)))))
  (r_reti (p1 := 87) dX2_other_87 (r_iconst dX2_other_86 rfl)))
noncomputable def m_X2_other : List Value → mj_H → mj_Res := mj_mk (some .int) 6 b_X2_other
theorem sd_X2_other : mj_Snd yX2_other (ws_ yX2_other cX2_other 6 (some .int)) 2 m_X2_other := mj_snd (own := RX2) (ini := false) (pE := 0) (bk := 0) (cn := 0) rfl (by decide) (fun h => nomatch h) (fun h => nomatch h) cf_X2_other
abbrev mi_X2_placeOf : mj_I := (RX2, cX2_placeOf, 2, 1, false, [], (fun _ => true))
noncomputable def b_X2_placeOf : mj_X mj_F :=
  (mx_ret .int (mx_bin o_iadd (mx_bin o_iadd (mx_get 2 28 (mx_vr 0)) (mx_ai (mx_getr 2 31 (mx_vr 0)) (mx_bin o_iadd (mx_bin o_imul (mx_k (3 : Int32)) (mx_dv 0 o_idiv (mx_v 1) (mx_k (64 : Int32)))) (mx_ai (mx_getr 2 13 (mx_vr 0)) (mx_v 1))))) (mx_ai (mx_getr 2 14 (mx_vr 0)) (mx_v 1))))
set_option maxRecDepth 100000 in
set_option maxHeartbeats 4000000 in
theorem cf_X2_placeOf : mj_Sm mi_X2_placeOf 0 0 0 0 b_X2_placeOf :=
  (r_reti (p1 := 30) dX2_placeOf_30 (r_iadd (p1 := 23) (p2 := 29) dX2_placeOf_29 (r_iadd (p1 := 4) (p2 := 22) dX2_placeOf_22 (rg_X2_1188 (p1 := 1) rfl dX2_placeOf_1 (r_aload_n dX2_placeOf_0 rfl)) (r_iaload (p1 := 8) (p2 := 21) dX2_placeOf_21 (rg_X2_79 (p1 := 5) rfl dX2_placeOf_5 (r_aload_n dX2_placeOf_4 rfl)) (r_iadd (p1 := 14) (p2 := 20) dX2_placeOf_20 (r_imul (p1 := 9) (p2 := 13) dX2_placeOf_13 (r_iconst dX2_placeOf_8 rfl) (r_idiv (p1 := 10) (p2 := 12) dX2_placeOf_12 (r_iload_n dX2_placeOf_9 rfl) (r_bipush dX2_placeOf_10 rfl))) (r_iaload (p1 := 18) (p2 := 19) dX2_placeOf_19 (rg_X2_40 (p1 := 15) rfl dX2_placeOf_15 (r_aload_n dX2_placeOf_14 rfl)) (r_iload_n dX2_placeOf_18 rfl))))) (r_iaload (p1 := 27) (p2 := 28) dX2_placeOf_28 (rg_X2_43 (p1 := 24) rfl dX2_placeOf_24 (r_aload_n dX2_placeOf_23 rfl)) (r_iload_n dX2_placeOf_27 rfl))))
noncomputable def m_X2_placeOf : List Value → mj_H → mj_Res := mj_mk (some .int) 2 b_X2_placeOf
theorem sd_X2_placeOf : mj_Snd yX2_placeOf (ws_ yX2_placeOf cX2_placeOf 2 (some .int)) 1 m_X2_placeOf := mj_snd (own := RX2) (ini := false) (pE := 0) (bk := 0) (cn := 0) rfl (by decide) (fun h => nomatch h) (fun h => nomatch h) cf_X2_placeOf
abbrev mi_X2_wordIn : mj_I := (RX2, cX2_wordIn, 2, 1, false, [], (fun _ => true))
noncomputable def b_X2_wordIn : mj_X mj_F :=
  (mx_ret .int (mx_bin o_ior (mx_bin o_ior (mx_bin o_ior (mx_bin o_ishl (mx_ab (mx_getr 2 30 (mx_vr 0)) (mx_v 1)) (mx_k (24 : Int32))) (mx_bin o_ishl (mx_bin o_iand (mx_ab (mx_getr 2 30 (mx_vr 0)) (mx_bin o_iadd (mx_v 1) (mx_k (1 : Int32)))) (mx_k (255 : Int32))) (mx_k (16 : Int32)))) (mx_bin o_ishl (mx_bin o_iand (mx_ab (mx_getr 2 30 (mx_vr 0)) (mx_bin o_iadd (mx_v 1) (mx_k (2 : Int32)))) (mx_k (255 : Int32))) (mx_k (8 : Int32)))) (mx_bin o_iand (mx_ab (mx_getr 2 30 (mx_vr 0)) (mx_bin o_iadd (mx_v 1) (mx_k (3 : Int32)))) (mx_k (255 : Int32)))))
set_option maxRecDepth 100000 in
set_option maxHeartbeats 4000000 in
theorem cf_X2_wordIn : mj_Sm mi_X2_wordIn 0 0 0 0 b_X2_wordIn :=
  (r_reti (p1 := 54) dX2_wordIn_54 (r_ior (p1 := 41) (p2 := 53) dX2_wordIn_53 (r_ior (p1 := 25) (p2 := 40) dX2_wordIn_40 (r_ior (p1 := 9) (p2 := 24) dX2_wordIn_24 (r_ishl (p1 := 6) (p2 := 8) dX2_wordIn_8 (r_baload (p1 := 4) (p2 := 5) dX2_wordIn_5 (rg_X2_76 (p1 := 1) rfl dX2_wordIn_1 (r_aload_n dX2_wordIn_0 rfl)) (r_iload_n dX2_wordIn_4 rfl)) (r_bipush dX2_wordIn_6 rfl)) (r_ishl (p1 := 21) (p2 := 23) dX2_wordIn_23 (r_iand (p1 := 17) (p2 := 20) dX2_wordIn_20 (r_baload (p1 := 13) (p2 := 16) dX2_wordIn_16 (rg_X2_76 (p1 := 10) rfl dX2_wordIn_10 (r_aload_n dX2_wordIn_9 rfl)) (r_iadd (p1 := 14) (p2 := 15) dX2_wordIn_15 (r_iload_n dX2_wordIn_13 rfl) (r_iconst dX2_wordIn_14 rfl))) (r_sipush dX2_wordIn_17 rfl)) (r_bipush dX2_wordIn_21 rfl))) (r_ishl (p1 := 37) (p2 := 39) dX2_wordIn_39 (r_iand (p1 := 33) (p2 := 36) dX2_wordIn_36 (r_baload (p1 := 29) (p2 := 32) dX2_wordIn_32 (rg_X2_76 (p1 := 26) rfl dX2_wordIn_26 (r_aload_n dX2_wordIn_25 rfl)) (r_iadd (p1 := 30) (p2 := 31) dX2_wordIn_31 (r_iload_n dX2_wordIn_29 rfl) (r_iconst dX2_wordIn_30 rfl))) (r_sipush dX2_wordIn_33 rfl)) (r_bipush dX2_wordIn_37 rfl))) (r_iand (p1 := 49) (p2 := 52) dX2_wordIn_52 (r_baload (p1 := 45) (p2 := 48) dX2_wordIn_48 (rg_X2_76 (p1 := 42) rfl dX2_wordIn_42 (r_aload_n dX2_wordIn_41 rfl)) (r_iadd (p1 := 46) (p2 := 47) dX2_wordIn_47 (r_iload_n dX2_wordIn_45 rfl) (r_iconst dX2_wordIn_46 rfl))) (r_sipush dX2_wordIn_49 rfl))))
noncomputable def m_X2_wordIn : List Value → mj_H → mj_Res := mj_mk (some .int) 2 b_X2_wordIn
theorem sd_X2_wordIn : mj_Snd yX2_wordIn (ws_ yX2_wordIn cX2_wordIn 2 (some .int)) 1 m_X2_wordIn := mj_snd (own := RX2) (ini := false) (pE := 0) (bk := 0) (cn := 0) rfl (by decide) (fun h => nomatch h) (fun h => nomatch h) cf_X2_wordIn
theorem rk_X2_1217 {μ : mj_I} {j p0 p1 p2 : Nat} {O : mj_X (Option Nat)} {Es : mj_X (List Value)} (ho : μ.1 = RX2) (hlen : ∀ σ, mj_ln 1 (Es σ)) (hfr : 2 ≤ μ.2.2.2.1) (hj : j ≤ 8) (hrg : μ.2.2.2.2.2.2 p2 = true) (d : decode μ.2.1 p2 = .ok (.invokevirtual 1217, 3)) (e1 : mj_E va_rf μ j p0 p1 O) (e2 : mj_Ar μ (j + 1) p1 p2 Es) : mj_Ec μ j p0 (p2 + 3) (mx_cv 2 m_X2_wordIn O Es) := r_callV (y := yX2_wordIn) (ccy := cX2_wordIn) (nLy := 2) (fry := 1) (n := 1) (ci := 2) (rety := (some .int)) sd_X2_wordIn rfl (by decide) (by rw [ho]; exact lw_V q1805 q1807 qs117 q120 q1808) (by decide +kernel) (by decide) hlen hfr hj hrg d e1 e2
abbrev mi_X2_done : mj_I := (RX2, cX2_done, 10, 2, false, [], (fun _ => true))
noncomputable def b_X2_done : mj_X mj_F :=
  (mx_seq (mx_set 3 (mx_bin o_iadd (mx_ai (mx_getr 2 31 (mx_vr 0)) (mx_bin o_iadd (mx_bin o_imul (mx_k (3 : Int32)) (mx_v 1)) (mx_ai (mx_getr 2 16 (mx_vr 0)) (mx_v 2)))) (mx_ai (mx_getr 2 17 (mx_vr 0)) (mx_v 2))))
  (mx_seq (mx_set 4 (mx_bin o_iadd (mx_ai (mx_getr 2 32 (mx_vr 0)) (mx_bin o_iadd (mx_bin o_imul (mx_k (64 : Int32)) (mx_v 1)) (mx_ai (mx_getr 2 19 (mx_vr 0)) (mx_v 2)))) (mx_ai (mx_getr 2 20 (mx_vr 0)) (mx_v 2))))
  (mx_seq (mx_set 5 (mx_bin o_iadd (mx_bin o_iadd (mx_get 2 28 (mx_vr 0)) (mx_v 3)) (mx_k (4 : Int32))))
  (mx_seq (mx_set 6 (mx_asi (mx_cv 2 m_X2_wordIn (mx_vr 0) (mx_cons .int (mx_v 3) mx_nil))))
  (mx_seq (mx_setl 7 (mx_un o_i2l (mx_bin o_isub (mx_v 4) (mx_v 5))))
  (mx_seq (mx_sw (mx_ai (mx_getr 2 18 (mx_vr 0)) (mx_v 2)) (((2 : Int), (mx_seq (mx_set 6 (mx_v 4))
  mx_brk)) ::
   (((5 : Int), (mx_seq (mx_set 6 (mx_bin o_ior (mx_bin o_iand (mx_v 6) (mx_k (-65536 : Int32))) (mx_bin o_iushr (mx_bin o_iadd (mx_v 4) (mx_k (32768 : Int32))) (mx_k (16 : Int32)))))
  mx_brk)) ::
   (((6 : Int), (mx_seq (mx_set 6 (mx_bin o_ior (mx_bin o_iand (mx_v 6) (mx_k (-65536 : Int32))) (mx_bin o_iand (mx_v 4) (mx_k (65535 : Int32)))))
  mx_brk)) ::
   (((4 : Int), (mx_seq (mx_if (mx_or (mx_is z_ne (mx_bin o_iand (mx_v 4) (mx_k (3 : Int32)))) (mx_cmp c_ne (mx_bin o_iushr (mx_v 4) (mx_k (28 : Int32))) (mx_bin o_iushr (mx_v 5) (mx_k (28 : Int32)))))
   (mx_ret .int (mx_k (0 : Int32)))
   mx_skip)
  (mx_seq (mx_set 6 (mx_bin o_ior (mx_bin o_iand (mx_v 6) (mx_k (-67108864 : Int32))) (mx_bin o_iand (mx_bin o_iushr (mx_v 4) (mx_k (2 : Int32))) (mx_k (67108863 : Int32)))))
  mx_brk))) ::
   []))))
   (mx_seq (mx_if (mx_or (mx_or (mx_cmp l_ne (mx_dv 0 o_lrem (mx_vl 7) (mx_k (4 : Int64))) (mx_k (0 : Int64))) (mx_cmp l_lt (mx_dv 0 o_ldiv (mx_vl 7) (mx_k (4 : Int64))) (mx_k (-32768 : Int64)))) (mx_cmp l_gt (mx_dv 0 o_ldiv (mx_vl 7) (mx_k (4 : Int64))) (mx_k (32767 : Int64))))
   (mx_ret .int (mx_k (0 : Int32)))
   mx_skip)
  (mx_seq (mx_set 6 (mx_bin o_ior (mx_bin o_iand (mx_v 6) (mx_k (-65536 : Int32))) (mx_bin o_iand (mx_un o_l2i (mx_dv 0 o_ldiv (mx_vl 7) (mx_k (4 : Int64)))) (mx_k (65535 : Int32)))))
  mx_brk)))
  (mx_seq (mx_seq (mx_set 9 (mx_k (0 : Int32)))
  (mx_loop (mx_cmp c_lt (mx_v 9) (mx_k (4 : Int32)))
  (mx_bst (mx_getr 2 30 (mx_vr 0)) (mx_bin o_iadd (mx_v 3) (mx_v 9)) (mx_un o_i2b (mx_bin o_ishr (mx_v 6) (mx_bin o_isub (mx_k (24 : Int32)) (mx_bin o_imul (mx_k (8 : Int32)) (mx_v 9))))))
  (mx_inc 9 (1 : Int32))))
  (mx_ret .int (mx_k (1 : Int32))))))))))
set_option maxRecDepth 100000 in
set_option maxHeartbeats 4000000 in
theorem cf_X2_done : mj_Sm mi_X2_done 0 0 0 0 b_X2_done :=
  (r_seq (p1 := 23) (r_istore_n (p1 := 22) dX2_done_22 rfl (by decide) (r_iadd (p1 := 15) (p2 := 21) dX2_done_21 (r_iaload (p1 := 4) (p2 := 14) dX2_done_14 (rg_X2_79 (p1 := 1) rfl dX2_done_1 (r_aload_n dX2_done_0 rfl)) (r_iadd (p1 := 7) (p2 := 13) dX2_done_13 (r_imul (p1 := 5) (p2 := 6) dX2_done_6 (r_iconst dX2_done_4 rfl) (r_iload_n dX2_done_5 rfl)) (r_iaload (p1 := 11) (p2 := 12) dX2_done_12 (rg_X2_50 (p1 := 8) rfl dX2_done_8 (r_aload_n dX2_done_7 rfl)) (r_iload_n dX2_done_11 rfl)))) (r_iaload (p1 := 19) (p2 := 20) dX2_done_20 (rg_X2_53 (p1 := 16) rfl dX2_done_16 (r_aload_n dX2_done_15 rfl)) (r_iload_n dX2_done_19 rfl))))
  (r_seq (p1 := 48) (r_istore (p1 := 46) dX2_done_46 (by decide) (r_iadd (p1 := 39) (p2 := 45) dX2_done_45 (r_iaload (p1 := 27) (p2 := 38) dX2_done_38 (rg_X2_82 (p1 := 24) rfl dX2_done_24 (r_aload_n dX2_done_23 rfl)) (r_iadd (p1 := 31) (p2 := 37) dX2_done_37 (r_imul (p1 := 29) (p2 := 30) dX2_done_30 (r_bipush dX2_done_27 rfl) (r_iload_n dX2_done_29 rfl)) (r_iaload (p1 := 35) (p2 := 36) dX2_done_36 (rg_X2_59 (p1 := 32) rfl dX2_done_32 (r_aload_n dX2_done_31 rfl)) (r_iload_n dX2_done_35 rfl)))) (r_iaload (p1 := 43) (p2 := 44) dX2_done_44 (rg_X2_62 (p1 := 40) rfl dX2_done_40 (r_aload_n dX2_done_39 rfl)) (r_iload_n dX2_done_43 rfl))))
  (r_seq (p1 := 58) (r_istore (p1 := 56) dX2_done_56 (by decide) (r_iadd (p1 := 54) (p2 := 55) dX2_done_55 (r_iadd (p1 := 52) (p2 := 53) dX2_done_53 (rg_X2_1188 (p1 := 49) rfl dX2_done_49 (r_aload_n dX2_done_48 rfl)) (r_iload_n dX2_done_52 rfl)) (r_iconst dX2_done_54 rfl)))
  (r_seq (p1 := 65) (r_istore (p1 := 63) dX2_done_63 (by decide) (r_asi (rk_X2_1217 (p1 := 59) (p2 := 60) rfl (r_lenS r_len0) (by decide) (by decide) rfl dX2_done_60 (r_aload_n dX2_done_58 rfl) (r_cons (p1 := 60) mj_wi (r_iload_n dX2_done_59 rfl) r_nil))))
  (r_seq (p1 := 73) (r_lstore (p1 := 71) dX2_done_71 (by decide) (r_i2l (p2 := 70) dX2_done_70 (r_isub (p1 := 67) (p2 := 69) dX2_done_69 (r_iload dX2_done_65) (r_iload dX2_done_67))))
  (r_seq (p1 := 258) (r_sw (p1 := 79) (pD := 199) (pE := 258) dX2_done_79 (r_csS (off := 33) (tgt := 112) (by decide) (by decide +kernel) (by decide) (r_seq (p1 := 116) (r_istore (p1 := 114) dX2_done_114 (by decide) (r_iload dX2_done_112))
  (r_brk dX2_done_116 rfl))
   (r_csS (off := 40) (tgt := 119) (by decide) (by decide +kernel) (by decide) (r_seq (p1 := 136) (r_istore (p1 := 134) dX2_done_134 (by decide) (r_ior (p1 := 125) (p2 := 133) dX2_done_133 (r_iand (p1 := 121) (p2 := 124) dX2_done_124 (r_iload dX2_done_119) (r_ldcw dX2_done_121 q1809)) (r_iushr (p1 := 130) (p2 := 132) dX2_done_132 (r_iadd (p1 := 127) (p2 := 129) dX2_done_129 (r_iload dX2_done_125) (r_ldc dX2_done_127 q920)) (r_bipush dX2_done_130 rfl))))
  (r_brk dX2_done_136 rfl))
   (r_csS (off := 60) (tgt := 139) (by decide) (by decide +kernel) (by decide) (r_seq (p1 := 154) (r_istore (p1 := 152) dX2_done_152 (by decide) (r_ior (p1 := 145) (p2 := 151) dX2_done_151 (r_iand (p1 := 141) (p2 := 144) dX2_done_144 (r_iload dX2_done_139) (r_ldcw dX2_done_141 q1809)) (r_iand (p1 := 147) (p2 := 150) dX2_done_150 (r_iload dX2_done_145) (r_ldcw dX2_done_147 q1694))))
  (r_brk dX2_done_154 rfl))
   (r_csS (off := 78) (tgt := 157) (by decide) (by decide +kernel) (by decide) (r_seq (p1 := 179) (r_if (p1 := 177) (p2 := 179) (p3 := 179) (r_or (p1 := 164) (p2 := 177) (p3 := 179) (r_zne_t (p1 := 161) dX2_done_161 rfl (r_iand (p1 := 159) (p2 := 160) dX2_done_160 (r_iload dX2_done_157) (r_iconst dX2_done_159 rfl))) (r_cne_f (p1 := 169) (p2 := 174) dX2_done_174 rfl (r_iushr (p1 := 166) (p2 := 168) dX2_done_168 (r_iload dX2_done_164) (r_bipush dX2_done_166 rfl)) (r_iushr (p1 := 171) (p2 := 173) dX2_done_173 (r_iload dX2_done_169) (r_bipush dX2_done_171 rfl))))
   (r_reti (p1 := 178) dX2_done_178 (r_iconst dX2_done_177 rfl))
   r_skip)
  (r_seq (p1 := 196) (r_istore (p1 := 194) dX2_done_194 (by decide) (r_ior (p1 := 185) (p2 := 193) dX2_done_193 (r_iand (p1 := 181) (p2 := 184) dX2_done_184 (r_iload dX2_done_179) (r_ldcw dX2_done_181 q1810)) (r_iand (p1 := 189) (p2 := 192) dX2_done_192 (r_iushr (p1 := 187) (p2 := 188) dX2_done_188 (r_iload dX2_done_185) (r_iconst dX2_done_187 rfl)) (r_ldcw dX2_done_189 q1811))))
  (r_brk dX2_done_196 rfl)))
   r_cs0)))) (by decide) (by decide +kernel) (r_seq (p1 := 238) (r_if (p1 := 236) (p2 := 238) (p3 := 238) (r_or (p1 := 223) (p2 := 236) (p3 := 238) (r_or (p1 := 210) (p2 := 236) (p3 := 223) (r_lne_t (p1 := 205) (p2 := 206) dX2_done_206 dX2_done_207 rfl (r_lrem (p1 := 201) (p2 := 204) dX2_done_204 (r_lload dX2_done_199) (r_ldc2 dX2_done_201 q1749)) (r_lconst dX2_done_205 rfl)) (r_llt_t (p1 := 216) (p2 := 219) dX2_done_219 dX2_done_220 rfl (r_ldiv (p1 := 212) (p2 := 215) dX2_done_215 (r_lload dX2_done_210) (r_ldc2 dX2_done_212 q1749)) (r_ldc2 dX2_done_216 q1674))) (r_lgt_f (p1 := 229) (p2 := 232) dX2_done_232 dX2_done_233 rfl (r_ldiv (p1 := 225) (p2 := 228) dX2_done_228 (r_lload dX2_done_223) (r_ldc2 dX2_done_225 q1749)) (r_ldc2 dX2_done_229 q1675)))
   (r_reti (p1 := 237) dX2_done_237 (r_iconst dX2_done_236 rfl))
   r_skip)
  (r_seq (p1 := 258) (r_istore (p1 := 256) dX2_done_256 (by decide) (r_ior (p1 := 244) (p2 := 255) dX2_done_255 (r_iand (p1 := 240) (p2 := 243) dX2_done_243 (r_iload dX2_done_238) (r_ldcw dX2_done_240 q1809)) (r_iand (p1 := 251) (p2 := 254) dX2_done_254 (r_l2i (p2 := 250) dX2_done_250 (r_ldiv (p1 := 246) (p2 := 249) dX2_done_249 (r_lload dX2_done_244) (r_ldc2 dX2_done_246 q1749))) (r_ldcw dX2_done_251 q1694))))
  r_brk0)) (r_iaload (p1 := 77) (p2 := 78) dX2_done_78 (rg_X2_56 (p1 := 74) rfl dX2_done_74 (r_aload_n dX2_done_73 rfl)) (r_iload_n dX2_done_77 rfl)))
  (r_seq (p1 := 294) (r_seq (p1 := 261) (r_istore (p1 := 259) dX2_done_259 (by decide) (r_iconst dX2_done_258 rfl))
  (r_loop (p1 := 267) (p2 := 288) (pE := 294) (r_clt_f (p1 := 263) (p2 := 264) dX2_done_264 rfl (r_iload dX2_done_261) (r_iconst dX2_done_263 rfl))
  (r_bastore (p1 := 271) (p2 := 275) (p3 := 287) dX2_done_287 (rg_X2_76 (p1 := 268) rfl dX2_done_268 (r_aload_n dX2_done_267 rfl)) (r_iadd (p1 := 272) (p2 := 274) dX2_done_274 (r_iload_n dX2_done_271 rfl) (r_iload dX2_done_272)) (r_i2b (p2 := 286) dX2_done_286 (r_ishr (p1 := 277) (p2 := 285) dX2_done_285 (r_iload dX2_done_275) (r_isub (p1 := 279) (p2 := 284) dX2_done_284 (r_bipush dX2_done_277 rfl) (r_imul (p1 := 281) (p2 := 283) dX2_done_283 (r_bipush dX2_done_279 rfl) (r_iload dX2_done_281))))))
  (r_goto (p1 := 291) dX2_done_291 rfl (r_iinc dX2_done_288 rfl (by decide)))))
  (r_reti (p1 := 295) dX2_done_295 (r_iconst dX2_done_294 rfl)))))))))
noncomputable def m_X2_done : List Value → mj_H → mj_Res := mj_mk (some .boolean) 10 b_X2_done
theorem sd_X2_done : mj_Snd yX2_done (ws_ yX2_done cX2_done 10 (some .boolean)) 2 m_X2_done := mj_snd (own := RX2) (ini := false) (pE := 0) (bk := 0) (cn := 0) rfl (by decide) (fun h => nomatch h) (fun h => nomatch h) cf_X2_done
theorem rk_X2_1195 {μ : mj_I} {j p0 p1 p2 : Nat} {O : mj_X (Option Nat)} {Es : mj_X (List Value)} (ho : μ.1 = RX2) (hlen : ∀ σ, mj_ln 3 (Es σ)) (hfr : 2 ≤ μ.2.2.2.1) (hj : j ≤ 8) (hrg : μ.2.2.2.2.2.2 p2 = true) (d : decode μ.2.1 p2 = .ok (.invokevirtual 1195, 3)) (e1 : mj_E va_rf μ j p0 p1 O) (e2 : mj_Ar μ (j + 1) p1 p2 Es) : mj_Ec μ j p0 (p2 + 3) (mx_cv 2 m_X2_failed O Es) := r_callV (y := yX2_failed) (ccy := cX2_failed) (nLy := 4) (fry := 1) (n := 3) (ci := 2) (rety := (some .int)) sd_X2_failed rfl (by decide) (by rw [ho]; exact lw_V q1781 q1783 qs111 q120 q1784) (by decide +kernel) (by decide) hlen hfr hj hrg d e1 e2
theorem rk_X2_1199 {μ : mj_I} {j p0 p1 p2 : Nat} {O : mj_X (Option Nat)} {Es : mj_X (List Value)} (ho : μ.1 = RX2) (hlen : ∀ σ, mj_ln 0 (Es σ)) (hfr : 2 ≤ μ.2.2.2.1) (hj : j ≤ 8) (hrg : μ.2.2.2.2.2.2 p2 = true) (d : decode μ.2.1 p2 = .ok (.invokevirtual 1199, 3)) (e1 : mj_E va_rf μ j p0 p1 O) (e2 : mj_Ar μ (j + 1) p1 p2 Es) : mj_Ec μ j p0 (p2 + 3) (mx_cv 2 m_X2_lay O Es) := r_callV (y := yX2_lay) (ccy := cX2_lay) (nLy := 4) (fry := 1) (n := 0) (ci := 2) (rety := (some .int)) sd_X2_lay rfl (by decide) (by rw [ho]; exact lw_V q1785 q1787 qs112 q120 q1788) (by decide +kernel) (by decide) hlen hfr hj hrg d e1 e2
theorem rk_X2_1202 {μ : mj_I} {j p0 p1 p2 : Nat} {O : mj_X (Option Nat)} {Es : mj_X (List Value)} (ho : μ.1 = RX2) (hlen : ∀ σ, mj_ln 3 (Es σ)) (hfr : 3 ≤ μ.2.2.2.1) (hj : j ≤ 8) (hrg : μ.2.2.2.2.2.2 p2 = true) (d : decode μ.2.1 p2 = .ok (.invokevirtual 1202, 3)) (e1 : mj_E va_rf μ j p0 p1 O) (e2 : mj_Ar μ (j + 1) p1 p2 Es) : mj_Ec μ j p0 (p2 + 3) (mx_cv 2 m_X2_other O Es) := r_callV (y := yX2_other) (ccy := cX2_other) (nLy := 6) (fry := 2) (n := 3) (ci := 2) (rety := (some .int)) sd_X2_other rfl (by decide) (by rw [ho]; exact lw_V q1789 q1791 qs113 q120 q1792) (by decide +kernel) (by decide) hlen hfr hj hrg d e1 e2
theorem rk_X2_1205 {μ : mj_I} {j p0 p1 p2 : Nat} {O : mj_X (Option Nat)} {Es : mj_X (List Value)} (ho : μ.1 = RX2) (hlen : ∀ σ, mj_ln 1 (Es σ)) (hfr : 2 ≤ μ.2.2.2.1) (hj : j ≤ 8) (hrg : μ.2.2.2.2.2.2 p2 = true) (d : decode μ.2.1 p2 = .ok (.invokevirtual 1205, 3)) (e1 : mj_E va_rf μ j p0 p1 O) (e2 : mj_Ar μ (j + 1) p1 p2 Es) : mj_Ec μ j p0 (p2 + 3) (mx_cv 2 m_X2_placeOf O Es) := r_callV (y := yX2_placeOf) (ccy := cX2_placeOf) (nLy := 2) (fry := 1) (n := 1) (ci := 2) (rety := (some .int)) sd_X2_placeOf rfl (by decide) (by rw [ho]; exact lw_V q1797 q1799 qs115 q120 q1800) (by decide +kernel) (by decide) hlen hfr hj hrg d e1 e2
theorem rk_X2_1208 {μ : mj_I} {j p0 p1 p2 : Nat} {O : mj_X (Option Nat)} {Es : mj_X (List Value)} (ho : μ.1 = RX2) (hlen : ∀ σ, mj_ln 2 (Es σ)) (hfr : 3 ≤ μ.2.2.2.1) (hj : j ≤ 8) (hrg : μ.2.2.2.2.2.2 p2 = true) (d : decode μ.2.1 p2 = .ok (.invokevirtual 1208, 3)) (e1 : mj_E va_rf μ j p0 p1 O) (e2 : mj_Ar μ (j + 1) p1 p2 Es) : mj_Ec μ j p0 (p2 + 3) (mx_cv 2 m_X2_done O Es) := r_callV (y := yX2_done) (ccy := cX2_done) (nLy := 10) (fry := 2) (n := 2) (ci := 2) (rety := (some .boolean)) sd_X2_done rfl (by decide) (by rw [ho]; exact lw_V q1801 q1803 qs116 q120 q1804) (by decide +kernel) (by decide) hlen hfr hj hrg d e1 e2
abbrev mi_X2_link : mj_I := (RX2, cX2_link, 7, 3, false, [], (fun _ => true))
noncomputable def b_X2_link : mj_X mj_F :=
  (mx_seq (mx_put 2 0 (mx_vr 0) (mx_k (0 : Int32)))
  (mx_seq (mx_if (mx_is z_ne (mx_bin o_iand (mx_v 1) (mx_k (7 : Int32))))
   (mx_ret .int (mx_asi (mx_cv 2 m_X2_refuse (mx_vr 0) (mx_cons .int (mx_k (1 : Int32)) mx_nil))))
   mx_skip)
  (mx_seq (mx_if (mx_is z_eq (mx_get 2 3 (mx_vr 0)))
   (mx_ret .int (mx_asi (mx_cv 2 m_X2_refuse (mx_vr 0) (mx_cons .int (mx_k (2 : Int32)) mx_nil))))
   mx_skip)
  (mx_seq (mx_putz 2 27 (mx_vr 0) (mx_k (0 : Int32)))
  (mx_seq (mx_pop (mx_cv 2 m_X2_failed (mx_vr 0) (mx_cons .int (mx_k (0 : Int32)) (mx_cons .int (mx_k (-1 : Int32)) (mx_cons .int (mx_k (-1 : Int32)) mx_nil)))))
  (mx_seq (mx_set 2 (mx_asi (mx_cv 2 m_X2_lay (mx_vr 0) mx_nil)))
  (mx_seq (mx_if (mx_cmp c_gt (mx_v 2) (mx_k (32768 : Int32)))
   (mx_ret .int (mx_asi (mx_cv 2 m_X2_failed (mx_vr 0) (mx_cons .int (mx_k (4 : Int32)) (mx_cons .int (mx_k (-1 : Int32)) (mx_cons .int (mx_k (-1 : Int32)) mx_nil))))))
   mx_skip)
  (mx_seq (mx_seq (mx_set 3 (mx_k (0 : Int32)))
  (mx_loop (mx_cmp c_lt (mx_v 3) (mx_get 2 3 (mx_vr 0)))
  (mx_seq (mx_set 4 (mx_k (0 : Int32)))
  (mx_loop (mx_cmp c_lt (mx_v 4) (mx_ai (mx_getr 2 7 (mx_vr 0)) (mx_v 3)))
  (mx_if (mx_and (mx_and (mx_is z_ne (mx_ab (mx_getr 2 15 (mx_vr 0)) (mx_bin o_iadd (mx_bin o_imul (mx_k (64 : Int32)) (mx_v 3)) (mx_v 4)))) (mx_cmp c_ne (mx_ai (mx_getr 2 13 (mx_vr 0)) (mx_bin o_iadd (mx_bin o_imul (mx_k (64 : Int32)) (mx_v 3)) (mx_v 4))) (mx_k (-1 : Int32)))) (mx_cmp c_ne (mx_asi (mx_cv 2 m_X2_other (mx_vr 0) (mx_cons .int (mx_v 3) (mx_cons .int (mx_bin o_iadd (mx_bin o_imul (mx_k (64 : Int32)) (mx_v 3)) (mx_v 4)) (mx_cons .int (mx_v 3) mx_nil))))) (mx_k (-1 : Int32))))
   (mx_ret .int (mx_asi (mx_cv 2 m_X2_failed (mx_vr 0) (mx_cons .int (mx_k (1 : Int32)) (mx_cons .int (mx_v 3) (mx_cons .int (mx_v 4) mx_nil))))))
   mx_skip)
  (mx_inc 4 (1 : Int32))))
  (mx_inc 3 (1 : Int32))))
  (mx_seq (mx_put 2 28 (mx_vr 0) (mx_v 1))
  (mx_seq (mx_seq (mx_set 3 (mx_k (0 : Int32)))
  (mx_loop (mx_cmp c_lt (mx_v 3) (mx_get 2 3 (mx_vr 0)))
  (mx_seq (mx_set 4 (mx_k (0 : Int32)))
  (mx_loop (mx_cmp c_lt (mx_v 4) (mx_ai (mx_getr 2 7 (mx_vr 0)) (mx_v 3)))
  (mx_seq (mx_set 5 (mx_bin o_iadd (mx_bin o_imul (mx_k (64 : Int32)) (mx_v 3)) (mx_v 4)))
  (mx_seq (mx_set 6 (mx_cond (mx_cmp c_ne (mx_ai (mx_getr 2 13 (mx_vr 0)) (mx_v 5)) (mx_k (-1 : Int32))) (mx_v 5) (mx_asi (mx_cv 2 m_X2_other (mx_vr 0) (mx_cons .int (mx_v 3) (mx_cons .int (mx_v 5) (mx_cons .int (mx_get 2 3 (mx_vr 0)) mx_nil)))))))
  (mx_seq (mx_if (mx_cmp c_eq (mx_v 6) (mx_k (-1 : Int32)))
   (mx_ret .int (mx_asi (mx_cv 2 m_X2_failed (mx_vr 0) (mx_cons .int (mx_k (2 : Int32)) (mx_cons .int (mx_v 3) (mx_cons .int (mx_v 4) mx_nil))))))
   mx_skip)
  (mx_ast (mx_getr 2 32 (mx_vr 0)) (mx_v 5) (mx_asi (mx_cv 2 m_X2_placeOf (mx_vr 0) (mx_cons .int (mx_v 6) mx_nil)))))))
  (mx_inc 4 (1 : Int32))))
  (mx_inc 3 (1 : Int32))))
  (mx_seq (mx_seq (mx_set 3 (mx_k (0 : Int32)))
  (mx_loop (mx_cmp c_lt (mx_v 3) (mx_v 2))
  (mx_bst (mx_getr 2 30 (mx_vr 0)) (mx_v 3) (mx_k (0 : Int32)))
  (mx_inc 3 (1 : Int32))))
  (mx_seq (mx_seq (mx_set 3 (mx_k (0 : Int32)))
  (mx_loop (mx_cmp c_lt (mx_v 3) (mx_get 2 3 (mx_vr 0)))
  (mx_seq (mx_set 4 (mx_k (0 : Int32)))
  (mx_loop (mx_cmp c_lt (mx_v 4) (mx_k (2 : Int32)))
  (mx_seq (mx_set 5 (mx_k (0 : Int32)))
  (mx_loop (mx_cmp c_lt (mx_v 5) (mx_ai (mx_getr 2 6 (mx_vr 0)) (mx_bin o_iadd (mx_bin o_imul (mx_k (3 : Int32)) (mx_v 3)) (mx_v 4))))
  (mx_bst (mx_getr 2 30 (mx_vr 0)) (mx_bin o_iadd (mx_ai (mx_getr 2 31 (mx_vr 0)) (mx_bin o_iadd (mx_bin o_imul (mx_k (3 : Int32)) (mx_v 3)) (mx_v 4))) (mx_v 5)) (mx_ab (mx_getr 2 5 (mx_vr 0)) (mx_bin o_iadd (mx_bin o_imul (mx_k (4096 : Int32)) (mx_bin o_iadd (mx_bin o_imul (mx_k (2 : Int32)) (mx_v 3)) (mx_v 4))) (mx_v 5))))
  (mx_inc 5 (1 : Int32))))
  (mx_inc 4 (1 : Int32))))
  (mx_inc 3 (1 : Int32))))
  (mx_seq (mx_seq (mx_set 3 (mx_k (0 : Int32)))
  (mx_loop (mx_cmp c_lt (mx_v 3) (mx_get 2 3 (mx_vr 0)))
  (mx_seq (mx_set 4 (mx_k (0 : Int32)))
  (mx_loop (mx_cmp c_lt (mx_v 4) (mx_ai (mx_getr 2 8 (mx_vr 0)) (mx_v 3)))
  (mx_if (mx_not (mx_is z_ne (mx_asi (mx_cv 2 m_X2_done (mx_vr 0) (mx_cons .int (mx_v 3) (mx_cons .int (mx_bin o_iadd (mx_bin o_imul (mx_k (256 : Int32)) (mx_v 3)) (mx_v 4)) mx_nil))))))
   (mx_ret .int (mx_asi (mx_cv 2 m_X2_failed (mx_vr 0) (mx_cons .int (mx_k (3 : Int32)) (mx_cons .int (mx_v 3) (mx_cons .int (mx_v 4) mx_nil))))))
   mx_skip)
  (mx_inc 4 (1 : Int32))))
  (mx_inc 3 (1 : Int32))))
  (mx_seq (mx_put 2 29 (mx_vr 0) (mx_v 2))
  (mx_seq (mx_put 2 4 (mx_vr 0) (mx_get 2 3 (mx_vr 0)))
  (mx_seq (mx_putz 2 27 (mx_vr 0) (mx_k (1 : Int32)))
  (mx_ret .int (mx_v 2))))))))))))))))))
set_option maxRecDepth 100000 in
set_option maxHeartbeats 4000000 in
theorem cf_X2_link : mj_Sm mi_X2_link 0 0 0 0 b_X2_link :=
  (r_seq (p1 := 5) (rp_X2_88 (p1 := 1) (p2 := 2) rfl dX2_link_2 (r_aload_n dX2_link_0 rfl) (r_iconst dX2_link_1 rfl))
  (r_seq (p1 := 18) (r_if (p1 := 12) (p2 := 18) (p3 := 18) (r_zne_f (p1 := 9) dX2_link_9 rfl (r_iand (p1 := 6) (p2 := 8) dX2_link_8 (r_iload_n dX2_link_5 rfl) (r_bipush dX2_link_6 rfl)))
   (r_reti (p1 := 17) dX2_link_17 (r_asi (rk_X2_94 (p1 := 13) (p2 := 14) rfl (r_lenS r_len0) (by decide) (by decide) rfl dX2_link_14 (r_aload_n dX2_link_12 rfl) (r_cons (p1 := 14) mj_wi (r_iconst dX2_link_13 rfl) r_nil))))
   r_skip)
  (r_seq (p1 := 31) (r_if (p1 := 25) (p2 := 31) (p3 := 31) (r_zeq_f (p1 := 22) dX2_link_22 rfl (rg_X2_1010 (p1 := 19) rfl dX2_link_19 (r_aload_n dX2_link_18 rfl)))
   (r_reti (p1 := 30) dX2_link_30 (r_asi (rk_X2_94 (p1 := 26) (p2 := 27) rfl (r_lenS r_len0) (by decide) (by decide) rfl dX2_link_27 (r_aload_n dX2_link_25 rfl) (r_cons (p1 := 27) mj_wi (r_iconst dX2_link_26 rfl) r_nil))))
   r_skip)
  (r_seq (p1 := 36) (rp_X2_1191 (p1 := 32) (p2 := 33) rfl dX2_link_33 (r_aload_n dX2_link_31 rfl) (r_iconst dX2_link_32 rfl))
  (r_seq (p1 := 44) (r_pop (p1 := 43) dX2_link_43 (rk_X2_1195 (p1 := 37) (p2 := 40) rfl (r_lenS (r_lenS (r_lenS r_len0))) (by decide) (by decide) rfl dX2_link_40 (r_aload_n dX2_link_36 rfl) (r_cons (p1 := 38) mj_wi (r_iconst dX2_link_37 rfl) (r_cons (p1 := 39) mj_wi (r_iconst dX2_link_38 rfl) (r_cons (p1 := 40) mj_wi (r_iconst dX2_link_39 rfl) r_nil)))))
  (r_seq (p1 := 49) (r_istore_n (p1 := 48) dX2_link_48 rfl (by decide) (r_asi (rk_X2_1199 (p1 := 45) (p2 := 45) rfl r_len0 (by decide) (by decide) rfl dX2_link_45 (r_aload_n dX2_link_44 rfl) r_nil)))
  (r_seq (p1 := 63) (r_if (p1 := 55) (p2 := 63) (p3 := 63) (r_cgt_f (p1 := 50) (p2 := 52) dX2_link_52 rfl (r_iload_n dX2_link_49 rfl) (r_ldc dX2_link_50 q920))
   (r_reti (p1 := 62) dX2_link_62 (r_asi (rk_X2_1195 (p1 := 56) (p2 := 59) rfl (r_lenS (r_lenS (r_lenS r_len0))) (by decide) (by decide) rfl dX2_link_59 (r_aload_n dX2_link_55 rfl) (r_cons (p1 := 57) mj_wi (r_iconst dX2_link_56 rfl) (r_cons (p1 := 58) mj_wi (r_iconst dX2_link_57 rfl) (r_cons (p1 := 59) mj_wi (r_iconst dX2_link_58 rfl) r_nil))))))
   r_skip)
  (r_seq (p1 := 156) (r_seq (p1 := 65) (r_istore_n (p1 := 64) dX2_link_64 rfl (by decide) (r_iconst dX2_link_63 rfl))
  (r_loop (p1 := 73) (p2 := 150) (pE := 156) (r_clt_f (p1 := 66) (p2 := 70) dX2_link_70 rfl (r_iload_n dX2_link_65 rfl) (rg_X2_1010 (p1 := 67) rfl dX2_link_67 (r_aload_n dX2_link_66 rfl)))
  (r_seq (p1 := 76) (r_istore (p1 := 74) dX2_link_74 (by decide) (r_iconst dX2_link_73 rfl))
  (r_loop (p1 := 87) (p2 := 144) (pE := 150) (r_clt_f (p1 := 78) (p2 := 84) dX2_link_84 rfl (r_iload dX2_link_76) (r_iaload (p1 := 82) (p2 := 83) dX2_link_83 (rg_X2_21 (p1 := 79) rfl dX2_link_79 (r_aload_n dX2_link_78 rfl)) (r_iload_n dX2_link_82 rfl)))
  (r_if (p1 := 135) (p2 := 144) (p3 := 144) (r_and (p1 := 118) (p2 := 135) (p3 := 144) (r_and (p1 := 102) (p2 := 118) (p3 := 144) (r_zne_f (p1 := 99) dX2_link_99 rfl (r_baload (p1 := 91) (p2 := 98) dX2_link_98 (rg_X2_46 (p1 := 88) rfl dX2_link_88 (r_aload_n dX2_link_87 rfl)) (r_iadd (p1 := 95) (p2 := 97) dX2_link_97 (r_imul (p1 := 93) (p2 := 94) dX2_link_94 (r_bipush dX2_link_91 rfl) (r_iload_n dX2_link_93 rfl)) (r_iload dX2_link_95)))) (r_cne_f (p1 := 114) (p2 := 115) dX2_link_115 rfl (r_iaload (p1 := 106) (p2 := 113) dX2_link_113 (rg_X2_40 (p1 := 103) rfl dX2_link_103 (r_aload_n dX2_link_102 rfl)) (r_iadd (p1 := 110) (p2 := 112) dX2_link_112 (r_imul (p1 := 108) (p2 := 109) dX2_link_109 (r_bipush dX2_link_106 rfl) (r_iload_n dX2_link_108 rfl)) (r_iload dX2_link_110))) (r_iconst dX2_link_114 rfl))) (r_cne_f (p1 := 131) (p2 := 132) dX2_link_132 rfl (r_asi (rk_X2_1202 (p1 := 119) (p2 := 128) rfl (r_lenS (r_lenS (r_lenS r_len0))) (by decide) (by decide) rfl dX2_link_128 (r_aload_n dX2_link_118 rfl) (r_cons (p1 := 120) mj_wi (r_iload_n dX2_link_119 rfl) (r_cons (p1 := 127) mj_wi (r_iadd (p1 := 124) (p2 := 126) dX2_link_126 (r_imul (p1 := 122) (p2 := 123) dX2_link_123 (r_bipush dX2_link_120 rfl) (r_iload_n dX2_link_122 rfl)) (r_iload dX2_link_124)) (r_cons (p1 := 128) mj_wi (r_iload_n dX2_link_127 rfl) r_nil))))) (r_iconst dX2_link_131 rfl)))
   (r_reti (p1 := 143) dX2_link_143 (r_asi (rk_X2_1195 (p1 := 136) (p2 := 140) rfl (r_lenS (r_lenS (r_lenS r_len0))) (by decide) (by decide) rfl dX2_link_140 (r_aload_n dX2_link_135 rfl) (r_cons (p1 := 137) mj_wi (r_iconst dX2_link_136 rfl) (r_cons (p1 := 138) mj_wi (r_iload_n dX2_link_137 rfl) (r_cons (p1 := 140) mj_wi (r_iload dX2_link_138) r_nil))))))
   r_skip)
  (r_goto (p1 := 147) dX2_link_147 rfl (r_iinc dX2_link_144 rfl (by decide)))))
  (r_goto (p1 := 153) dX2_link_153 rfl (r_iinc dX2_link_150 rfl (by decide)))))
  (r_seq (p1 := 161) (rp_X2_1188 (p1 := 157) (p2 := 158) rfl dX2_link_158 (r_aload_n dX2_link_156 rfl) (r_iload_n dX2_link_157 rfl))
  (r_seq (p1 := 263) (r_seq (p1 := 163) (r_istore_n (p1 := 162) dX2_link_162 rfl (by decide) (r_iconst dX2_link_161 rfl))
  (r_loop (p1 := 171) (p2 := 257) (pE := 263) (r_clt_f (p1 := 164) (p2 := 168) dX2_link_168 rfl (r_iload_n dX2_link_163 rfl) (rg_X2_1010 (p1 := 165) rfl dX2_link_165 (r_aload_n dX2_link_164 rfl)))
  (r_seq (p1 := 174) (r_istore (p1 := 172) dX2_link_172 (by decide) (r_iconst dX2_link_171 rfl))
  (r_loop (p1 := 185) (p2 := 251) (pE := 257) (r_clt_f (p1 := 176) (p2 := 182) dX2_link_182 rfl (r_iload dX2_link_174) (r_iaload (p1 := 180) (p2 := 181) dX2_link_181 (rg_X2_21 (p1 := 177) rfl dX2_link_177 (r_aload_n dX2_link_176 rfl)) (r_iload_n dX2_link_180 rfl)))
  (r_seq (p1 := 194) (r_istore (p1 := 192) dX2_link_192 (by decide) (r_iadd (p1 := 189) (p2 := 191) dX2_link_191 (r_imul (p1 := 187) (p2 := 188) dX2_link_188 (r_bipush dX2_link_185 rfl) (r_iload_n dX2_link_187 rfl)) (r_iload dX2_link_189)))
  (r_seq (p1 := 223) (r_istore (p1 := 221) dX2_link_221 (by decide) (r_cond (p1 := 205) (p2 := 210) (p3 := 221) (r_cne_f (p1 := 201) (p2 := 202) dX2_link_202 rfl (r_iaload (p1 := 198) (p2 := 200) dX2_link_200 (rg_X2_40 (p1 := 195) rfl dX2_link_195 (r_aload_n dX2_link_194 rfl)) (r_iload dX2_link_198)) (r_iconst dX2_link_201 rfl)) (r_egoto (p1 := 207) dX2_link_207 rfl (r_iload dX2_link_205)) (r_asi (rk_X2_1202 (p1 := 211) (p2 := 218) rfl (r_lenS (r_lenS (r_lenS r_len0))) (by decide) (by decide) rfl dX2_link_218 (r_aload_n dX2_link_210 rfl) (r_cons (p1 := 212) mj_wi (r_iload_n dX2_link_211 rfl) (r_cons (p1 := 214) mj_wi (r_iload dX2_link_212) (r_cons (p1 := 218) mj_wi (rg_X2_1010 (p1 := 215) rfl dX2_link_215 (r_aload_n dX2_link_214 rfl)) r_nil)))))))
  (r_seq (p1 := 238) (r_if (p1 := 229) (p2 := 238) (p3 := 238) (r_ceq_f (p1 := 225) (p2 := 226) dX2_link_226 rfl (r_iload dX2_link_223) (r_iconst dX2_link_225 rfl))
   (r_reti (p1 := 237) dX2_link_237 (r_asi (rk_X2_1195 (p1 := 230) (p2 := 234) rfl (r_lenS (r_lenS (r_lenS r_len0))) (by decide) (by decide) rfl dX2_link_234 (r_aload_n dX2_link_229 rfl) (r_cons (p1 := 231) mj_wi (r_iconst dX2_link_230 rfl) (r_cons (p1 := 232) mj_wi (r_iload_n dX2_link_231 rfl) (r_cons (p1 := 234) mj_wi (r_iload dX2_link_232) r_nil))))))
   r_skip)
  (r_iastore (p1 := 242) (p2 := 244) (p3 := 250) dX2_link_250 (rg_X2_82 (p1 := 239) rfl dX2_link_239 (r_aload_n dX2_link_238 rfl)) (r_iload dX2_link_242) (r_asi (rk_X2_1205 (p1 := 245) (p2 := 247) rfl (r_lenS r_len0) (by decide) (by decide) rfl dX2_link_247 (r_aload_n dX2_link_244 rfl) (r_cons (p1 := 247) mj_wi (r_iload dX2_link_245) r_nil)))))))
  (r_goto (p1 := 254) dX2_link_254 rfl (r_iinc dX2_link_251 rfl (by decide)))))
  (r_goto (p1 := 260) dX2_link_260 rfl (r_iinc dX2_link_257 rfl (by decide)))))
  (r_seq (p1 := 283) (r_seq (p1 := 265) (r_istore_n (p1 := 264) dX2_link_264 rfl (by decide) (r_iconst dX2_link_263 rfl))
  (r_loop (p1 := 270) (p2 := 277) (pE := 283) (r_clt_f (p1 := 266) (p2 := 267) dX2_link_267 rfl (r_iload_n dX2_link_265 rfl) (r_iload_n dX2_link_266 rfl))
  (r_bastore (p1 := 274) (p2 := 275) (p3 := 276) dX2_link_276 (rg_X2_76 (p1 := 271) rfl dX2_link_271 (r_aload_n dX2_link_270 rfl)) (r_iload_n dX2_link_274 rfl) (r_iconst dX2_link_275 rfl))
  (r_goto (p1 := 280) dX2_link_280 rfl (r_iinc dX2_link_277 rfl (by decide)))))
  (r_seq (p1 := 376) (r_seq (p1 := 285) (r_istore_n (p1 := 284) dX2_link_284 rfl (by decide) (r_iconst dX2_link_283 rfl))
  (r_loop (p1 := 293) (p2 := 370) (pE := 376) (r_clt_f (p1 := 286) (p2 := 290) dX2_link_290 rfl (r_iload_n dX2_link_285 rfl) (rg_X2_1010 (p1 := 287) rfl dX2_link_287 (r_aload_n dX2_link_286 rfl)))
  (r_seq (p1 := 296) (r_istore (p1 := 294) dX2_link_294 (by decide) (r_iconst dX2_link_293 rfl))
  (r_loop (p1 := 302) (p2 := 364) (pE := 370) (r_clt_f (p1 := 298) (p2 := 299) dX2_link_299 rfl (r_iload dX2_link_296) (r_iconst dX2_link_298 rfl))
  (r_seq (p1 := 305) (r_istore (p1 := 303) dX2_link_303 (by decide) (r_iconst dX2_link_302 rfl))
  (r_loop (p1 := 321) (p2 := 358) (pE := 364) (r_clt_f (p1 := 307) (p2 := 318) dX2_link_318 rfl (r_iload dX2_link_305) (r_iaload (p1 := 311) (p2 := 317) dX2_link_317 (rg_X2_17 (p1 := 308) rfl dX2_link_308 (r_aload_n dX2_link_307 rfl)) (r_iadd (p1 := 314) (p2 := 316) dX2_link_316 (r_imul (p1 := 312) (p2 := 313) dX2_link_313 (r_iconst dX2_link_311 rfl) (r_iload_n dX2_link_312 rfl)) (r_iload dX2_link_314))))
  (r_bastore (p1 := 325) (p2 := 339) (p3 := 357) dX2_link_357 (rg_X2_76 (p1 := 322) rfl dX2_link_322 (r_aload_n dX2_link_321 rfl)) (r_iadd (p1 := 336) (p2 := 338) dX2_link_338 (r_iaload (p1 := 329) (p2 := 335) dX2_link_335 (rg_X2_79 (p1 := 326) rfl dX2_link_326 (r_aload_n dX2_link_325 rfl)) (r_iadd (p1 := 332) (p2 := 334) dX2_link_334 (r_imul (p1 := 330) (p2 := 331) dX2_link_331 (r_iconst dX2_link_329 rfl) (r_iload_n dX2_link_330 rfl)) (r_iload dX2_link_332))) (r_iload dX2_link_336)) (r_baload (p1 := 343) (p2 := 356) dX2_link_356 (rg_X2_14 (p1 := 340) rfl dX2_link_340 (r_aload_n dX2_link_339 rfl)) (r_iadd (p1 := 353) (p2 := 355) dX2_link_355 (r_imul (p1 := 346) (p2 := 352) dX2_link_352 (r_sipush dX2_link_343 rfl) (r_iadd (p1 := 349) (p2 := 351) dX2_link_351 (r_imul (p1 := 347) (p2 := 348) dX2_link_348 (r_iconst dX2_link_346 rfl) (r_iload_n dX2_link_347 rfl)) (r_iload dX2_link_349))) (r_iload dX2_link_353))))
  (r_goto (p1 := 361) dX2_link_361 rfl (r_iinc dX2_link_358 rfl (by decide)))))
  (r_goto (p1 := 367) dX2_link_367 rfl (r_iinc dX2_link_364 rfl (by decide)))))
  (r_goto (p1 := 373) dX2_link_373 rfl (r_iinc dX2_link_370 rfl (by decide)))))
  (r_seq (p1 := 437) (r_seq (p1 := 378) (r_istore_n (p1 := 377) dX2_link_377 rfl (by decide) (r_iconst dX2_link_376 rfl))
  (r_loop (p1 := 386) (p2 := 431) (pE := 437) (r_clt_f (p1 := 379) (p2 := 383) dX2_link_383 rfl (r_iload_n dX2_link_378 rfl) (rg_X2_1010 (p1 := 380) rfl dX2_link_380 (r_aload_n dX2_link_379 rfl)))
  (r_seq (p1 := 389) (r_istore (p1 := 387) dX2_link_387 (by decide) (r_iconst dX2_link_386 rfl))
  (r_loop (p1 := 400) (p2 := 425) (pE := 431) (r_clt_f (p1 := 391) (p2 := 397) dX2_link_397 rfl (r_iload dX2_link_389) (r_iaload (p1 := 395) (p2 := 396) dX2_link_396 (rg_X2_24 (p1 := 392) rfl dX2_link_392 (r_aload_n dX2_link_391 rfl)) (r_iload_n dX2_link_395 rfl)))
  (r_if (p1 := 416) (p2 := 425) (p3 := 425) (r_not (r_zne_t (p1 := 413) dX2_link_413 rfl (r_asi (rk_X2_1208 (p1 := 401) (p2 := 410) rfl (r_lenS (r_lenS r_len0)) (by decide) (by decide) rfl dX2_link_410 (r_aload_n dX2_link_400 rfl) (r_cons (p1 := 402) mj_wi (r_iload_n dX2_link_401 rfl) (r_cons (p1 := 410) mj_wi (r_iadd (p1 := 407) (p2 := 409) dX2_link_409 (r_imul (p1 := 405) (p2 := 406) dX2_link_406 (r_sipush dX2_link_402 rfl) (r_iload_n dX2_link_405 rfl)) (r_iload dX2_link_407)) r_nil))))))
   (r_reti (p1 := 424) dX2_link_424 (r_asi (rk_X2_1195 (p1 := 417) (p2 := 421) rfl (r_lenS (r_lenS (r_lenS r_len0))) (by decide) (by decide) rfl dX2_link_421 (r_aload_n dX2_link_416 rfl) (r_cons (p1 := 418) mj_wi (r_iconst dX2_link_417 rfl) (r_cons (p1 := 419) mj_wi (r_iload_n dX2_link_418 rfl) (r_cons (p1 := 421) mj_wi (r_iload dX2_link_419) r_nil))))))
   r_skip)
  (r_goto (p1 := 428) dX2_link_428 rfl (r_iinc dX2_link_425 rfl (by decide)))))
  (r_goto (p1 := 434) dX2_link_434 rfl (r_iinc dX2_link_431 rfl (by decide)))))
  (r_seq (p1 := 442) (rp_X2_1211 (p1 := 438) (p2 := 439) rfl dX2_link_439 (r_aload_n dX2_link_437 rfl) (r_iload_n dX2_link_438 rfl))
  (r_seq (p1 := 450) (rp_X2_1214 (p1 := 443) (p2 := 447) rfl dX2_link_447 (r_aload_n dX2_link_442 rfl) (rg_X2_1010 (p1 := 444) rfl dX2_link_444 (r_aload_n dX2_link_443 rfl)))
  (r_seq (p1 := 455) (rp_X2_1191 (p1 := 451) (p2 := 452) rfl dX2_link_452 (r_aload_n dX2_link_450 rfl) (r_iconst dX2_link_451 rfl))
  (r_reti (p1 := 456) dX2_link_456 (r_iload_n dX2_link_455 rfl))))))))))))))))))
noncomputable def m_X2_link : List Value → mj_H → mj_Res := mj_mk (some .int) 7 b_X2_link
theorem sd_X2_link : mj_Snd yX2_link (ws_ yX2_link cX2_link 7 (some .int)) 3 m_X2_link := mj_snd (own := RX2) (ini := false) (pE := 0) (bk := 0) (cn := 0) rfl (by decide) (fun h => nomatch h) (fun h => nomatch h) cf_X2_link
abbrev mi_X2_word : mj_I := (RX2, cX2_word, 3, 2, false, [], (fun _ => true))
noncomputable def b_X2_word : mj_X mj_F :=
  (mx_seq (mx_put 2 0 (mx_vr 0) (mx_k (0 : Int32)))
  (mx_seq (mx_set 2 (mx_bin o_isub (mx_v 1) (mx_get 2 28 (mx_vr 0))))
  (mx_seq (mx_if (mx_or (mx_or (mx_or (mx_not (mx_is z_ne (mx_get 2 27 (mx_vr 0)))) (mx_is z_ne (mx_bin o_iand (mx_v 1) (mx_k (3 : Int32))))) (mx_is z_lt (mx_v 2))) (mx_cmp c_gt (mx_v 2) (mx_bin o_isub (mx_get 2 29 (mx_vr 0)) (mx_k (4 : Int32)))))
   (mx_ret .int (mx_asi (mx_cv 2 m_X2_refuse (mx_vr 0) (mx_cons .int (mx_k (1 : Int32)) mx_nil))))
   mx_skip)
  (mx_ret .int (mx_asi (mx_cv 2 m_X2_wordIn (mx_vr 0) (mx_cons .int (mx_v 2) mx_nil)))))))
set_option maxRecDepth 100000 in
set_option maxHeartbeats 4000000 in
theorem cf_X2_word : mj_Sm mi_X2_word 0 0 0 0 b_X2_word :=
  (r_seq (p1 := 5) (rp_X2_88 (p1 := 1) (p2 := 2) rfl dX2_word_2 (r_aload_n dX2_word_0 rfl) (r_iconst dX2_word_1 rfl))
  (r_seq (p1 := 12) (r_istore_n (p1 := 11) dX2_word_11 rfl (by decide) (r_isub (p1 := 6) (p2 := 10) dX2_word_10 (r_iload_n dX2_word_5 rfl) (rg_X2_1188 (p1 := 7) rfl dX2_word_7 (r_aload_n dX2_word_6 rfl))))
  (r_seq (p1 := 45) (r_if (p1 := 39) (p2 := 45) (p3 := 45) (r_or (p1 := 29) (p2 := 39) (p3 := 45) (r_or (p1 := 25) (p2 := 39) (p3 := 29) (r_or (p1 := 19) (p2 := 39) (p3 := 25) (r_not (r_zne_f (p1 := 16) dX2_word_16 rfl (rg_X2_1191 (p1 := 13) rfl dX2_word_13 (r_aload_n dX2_word_12 rfl)))) (r_zne_t (p1 := 22) dX2_word_22 rfl (r_iand (p1 := 20) (p2 := 21) dX2_word_21 (r_iload_n dX2_word_19 rfl) (r_iconst dX2_word_20 rfl)))) (r_zlt_t (p1 := 26) dX2_word_26 rfl (r_iload_n dX2_word_25 rfl))) (r_cgt_f (p1 := 30) (p2 := 36) dX2_word_36 rfl (r_iload_n dX2_word_29 rfl) (r_isub (p1 := 34) (p2 := 35) dX2_word_35 (rg_X2_1211 (p1 := 31) rfl dX2_word_31 (r_aload_n dX2_word_30 rfl)) (r_iconst dX2_word_34 rfl))))
   (r_reti (p1 := 44) dX2_word_44 (r_asi (rk_X2_94 (p1 := 40) (p2 := 41) rfl (r_lenS r_len0) (by decide) (by decide) rfl dX2_word_41 (r_aload_n dX2_word_39 rfl) (r_cons (p1 := 41) mj_wi (r_iconst dX2_word_40 rfl) r_nil))))
   r_skip)
  (r_reti (p1 := 50) dX2_word_50 (r_asi (rk_X2_1217 (p1 := 46) (p2 := 47) rfl (r_lenS r_len0) (by decide) (by decide) rfl dX2_word_47 (r_aload_n dX2_word_45 rfl) (r_cons (p1 := 47) mj_wi (r_iload_n dX2_word_46 rfl) r_nil)))))))
noncomputable def m_X2_word : List Value → mj_H → mj_Res := mj_mk (some .int) 3 b_X2_word
theorem sd_X2_word : mj_Snd yX2_word (ws_ yX2_word cX2_word 3 (some .int)) 2 m_X2_word := mj_snd (own := RX2) (ini := false) (pE := 0) (bk := 0) (cn := 0) rfl (by decide) (fun h => nomatch h) (fun h => nomatch h) cf_X2_word
abbrev mi_X2_address : mj_I := (RX2, cX2_address, 3, 2, false, [], (fun _ => true))
noncomputable def b_X2_address : mj_X mj_F :=
  (mx_seq (mx_put 2 0 (mx_vr 0) (mx_k (0 : Int32)))
  (mx_seq (mx_if (mx_or (mx_not (mx_is z_ne (mx_asi (mx_cs m_X2_within (mx_cons .int (mx_v 1) (mx_cons .int (mx_get 2 3 (mx_vr 0)) mx_nil)))))) (mx_not (mx_is z_ne (mx_asi (mx_cs m_X2_within (mx_cons .int (mx_v 2) (mx_cons .int (mx_ai (mx_getr 2 7 (mx_vr 0)) (mx_v 1)) mx_nil)))))))
   (mx_ret .int (mx_asi (mx_cv 2 m_X2_refuse (mx_vr 0) (mx_cons .int (mx_k (1 : Int32)) mx_nil))))
   mx_skip)
  (mx_ret .int (mx_cond (mx_and (mx_is z_ne (mx_get 2 27 (mx_vr 0))) (mx_cmp c_lt (mx_v 1) (mx_get 2 4 (mx_vr 0)))) (mx_ai (mx_getr 2 32 (mx_vr 0)) (mx_bin o_iadd (mx_bin o_imul (mx_k (64 : Int32)) (mx_v 1)) (mx_v 2))) (mx_asi (mx_cv 2 m_X2_refuse (mx_vr 0) (mx_cons .int (mx_k (2 : Int32)) mx_nil)))))))
set_option maxRecDepth 100000 in
set_option maxHeartbeats 4000000 in
theorem cf_X2_address : mj_Sm mi_X2_address 0 0 0 0 b_X2_address :=
  (r_seq (p1 := 5) (rp_X2_88 (p1 := 1) (p2 := 2) rfl dX2_address_2 (r_aload_n dX2_address_0 rfl) (r_iconst dX2_address_1 rfl))
  (r_seq (p1 := 35) (r_if (p1 := 29) (p2 := 35) (p3 := 35) (r_or (p1 := 16) (p2 := 29) (p3 := 35) (r_not (r_zne_f (p1 := 13) dX2_address_13 rfl (r_asi (rk_X2_1181 (p1 := 10) rfl (r_lenS (r_lenS r_len0)) (by decide) (by decide) rfl dX2_address_10 (r_cons (p1 := 6) mj_wi (r_iload_n dX2_address_5 rfl) (r_cons (p1 := 10) mj_wi (rg_X2_1010 (p1 := 7) rfl dX2_address_7 (r_aload_n dX2_address_6 rfl)) r_nil)))))) (r_not (r_zne_t (p1 := 26) dX2_address_26 rfl (r_asi (rk_X2_1181 (p1 := 23) rfl (r_lenS (r_lenS r_len0)) (by decide) (by decide) rfl dX2_address_23 (r_cons (p1 := 17) mj_wi (r_iload_n dX2_address_16 rfl) (r_cons (p1 := 23) mj_wi (r_iaload (p1 := 21) (p2 := 22) dX2_address_22 (rg_X2_21 (p1 := 18) rfl dX2_address_18 (r_aload_n dX2_address_17 rfl)) (r_iload_n dX2_address_21 rfl)) r_nil)))))))
   (r_reti (p1 := 34) dX2_address_34 (r_asi (rk_X2_94 (p1 := 30) (p2 := 31) rfl (r_lenS r_len0) (by decide) (by decide) rfl dX2_address_31 (r_aload_n dX2_address_29 rfl) (r_cons (p1 := 31) mj_wi (r_iconst dX2_address_30 rfl) r_nil))))
   r_skip)
  (r_reti (p1 := 69) dX2_address_69 (r_cond (p1 := 50) (p2 := 64) (p3 := 69) (r_and (p1 := 42) (p2 := 50) (p3 := 64) (r_zne_f (p1 := 39) dX2_address_39 rfl (rg_X2_1191 (p1 := 36) rfl dX2_address_36 (r_aload_n dX2_address_35 rfl))) (r_clt_f (p1 := 43) (p2 := 47) dX2_address_47 rfl (r_iload_n dX2_address_42 rfl) (rg_X2_1214 (p1 := 44) rfl dX2_address_44 (r_aload_n dX2_address_43 rfl)))) (r_egoto (p1 := 61) dX2_address_61 rfl (r_iaload (p1 := 54) (p2 := 60) dX2_address_60 (rg_X2_82 (p1 := 51) rfl dX2_address_51 (r_aload_n dX2_address_50 rfl)) (r_iadd (p1 := 58) (p2 := 59) dX2_address_59 (r_imul (p1 := 56) (p2 := 57) dX2_address_57 (r_bipush dX2_address_54 rfl) (r_iload_n dX2_address_56 rfl)) (r_iload_n dX2_address_58 rfl)))) (r_asi (rk_X2_94 (p1 := 65) (p2 := 66) rfl (r_lenS r_len0) (by decide) (by decide) rfl dX2_address_66 (r_aload_n dX2_address_64 rfl) (r_cons (p1 := 66) mj_wi (r_iconst dX2_address_65 rfl) r_nil)))))))
noncomputable def m_X2_address : List Value → mj_H → mj_Res := mj_mk (some .int) 3 b_X2_address
theorem sd_X2_address : mj_Snd yX2_address (ws_ yX2_address cX2_address 3 (some .int)) 2 m_X2_address := mj_snd (own := RX2) (ini := false) (pE := 0) (bk := 0) (cn := 0) rfl (by decide) (fun h => nomatch h) (fun h => nomatch h) cf_X2_address
abbrev mi_X2_clear : mj_I := (RX2, cX2_clear, 2, 1, false, [], (fun _ => true))
noncomputable def b_X2_clear : mj_X mj_F :=
  (mx_seq (mx_put 2 0 (mx_vr 0) (mx_k (0 : Int32)))
  (mx_seq (mx_set 1 (mx_get 2 3 (mx_vr 0)))
  (mx_seq (mx_put 2 3 (mx_vr 0) (mx_k (0 : Int32)))
  (mx_seq (mx_putz 2 27 (mx_vr 0) (mx_k (0 : Int32)))
  (mx_ret .int (mx_v 1))))))
set_option maxRecDepth 100000 in
set_option maxHeartbeats 4000000 in
theorem cf_X2_clear : mj_Sm mi_X2_clear 0 0 0 0 b_X2_clear :=
  (r_seq (p1 := 5) (rp_X2_88 (p1 := 1) (p2 := 2) rfl dX2_clear_2 (r_aload_n dX2_clear_0 rfl) (r_iconst dX2_clear_1 rfl))
  (r_seq (p1 := 10) (r_istore_n (p1 := 9) dX2_clear_9 rfl (by decide) (rg_X2_1010 (p1 := 6) rfl dX2_clear_6 (r_aload_n dX2_clear_5 rfl)))
  (r_seq (p1 := 15) (rp_X2_1010 (p1 := 11) (p2 := 12) rfl dX2_clear_12 (r_aload_n dX2_clear_10 rfl) (r_iconst dX2_clear_11 rfl))
  (r_seq (p1 := 20) (rp_X2_1191 (p1 := 16) (p2 := 17) rfl dX2_clear_17 (r_aload_n dX2_clear_15 rfl) (r_iconst dX2_clear_16 rfl))
  (r_reti (p1 := 21) dX2_clear_21 (r_iload_n dX2_clear_20 rfl))))))
noncomputable def m_X2_clear : List Value → mj_H → mj_Res := mj_mk (some .int) 2 b_X2_clear
theorem sd_X2_clear : mj_Snd yX2_clear (ws_ yX2_clear cX2_clear 2 (some .int)) 1 m_X2_clear := mj_snd (own := RX2) (ini := false) (pE := 0) (bk := 0) (cn := 0) rfl (by decide) (fun h => nomatch h) (fun h => nomatch h) cf_X2_clear
abbrev mi_X2_count : mj_I := (RX2, cX2_count, 3, 2, false, [], (fun _ => true))
noncomputable def b_X2_count : mj_X mj_F :=
  (mx_seq (mx_put 2 0 (mx_vr 0) (mx_k (0 : Int32)))
  (mx_seq (mx_if (mx_or (mx_not (mx_is z_ne (mx_asi (mx_cs m_X2_within (mx_cons .int (mx_v 1) (mx_cons .int (mx_k (4 : Int32)) mx_nil)))))) (mx_and (mx_cmp c_gt (mx_v 1) (mx_k (1 : Int32))) (mx_not (mx_is z_ne (mx_asi (mx_cs m_X2_within (mx_cons .int (mx_v 2) (mx_cons .int (mx_get 2 3 (mx_vr 0)) mx_nil))))))))
   (mx_ret .int (mx_asi (mx_cv 2 m_X2_refuse (mx_vr 0) (mx_cons .int (mx_k (1 : Int32)) mx_nil))))
   mx_skip)
  (mx_ret .int (mx_cond (mx_is z_eq (mx_v 1)) (mx_get 2 1 (mx_vr 0)) (mx_cond (mx_cmp c_eq (mx_v 1) (mx_k (1 : Int32))) (mx_get 2 3 (mx_vr 0)) (mx_cond (mx_cmp c_eq (mx_v 1) (mx_k (2 : Int32))) (mx_ai (mx_getr 2 7 (mx_vr 0)) (mx_v 2)) (mx_ai (mx_getr 2 8 (mx_vr 0)) (mx_v 2))))))))
set_option maxRecDepth 100000 in
set_option maxHeartbeats 4000000 in
theorem cf_X2_count : mj_Sm mi_X2_count 0 0 0 0 b_X2_count :=
  (r_seq (p1 := 5) (rp_X2_88 (p1 := 1) (p2 := 2) rfl dX2_count_2 (r_aload_n dX2_count_0 rfl) (r_iconst dX2_count_1 rfl))
  (r_seq (p1 := 35) (r_if (p1 := 29) (p2 := 35) (p3 := 35) (r_or (p1 := 13) (p2 := 29) (p3 := 35) (r_not (r_zne_f (p1 := 10) dX2_count_10 rfl (r_asi (rk_X2_1181 (p1 := 7) rfl (r_lenS (r_lenS r_len0)) (by decide) (by decide) rfl dX2_count_7 (r_cons (p1 := 6) mj_wi (r_iload_n dX2_count_5 rfl) (r_cons (p1 := 7) mj_wi (r_iconst dX2_count_6 rfl) r_nil)))))) (r_and (p1 := 18) (p2 := 29) (p3 := 35) (r_cgt_f (p1 := 14) (p2 := 15) dX2_count_15 rfl (r_iload_n dX2_count_13 rfl) (r_iconst dX2_count_14 rfl)) (r_not (r_zne_t (p1 := 26) dX2_count_26 rfl (r_asi (rk_X2_1181 (p1 := 23) rfl (r_lenS (r_lenS r_len0)) (by decide) (by decide) rfl dX2_count_23 (r_cons (p1 := 19) mj_wi (r_iload_n dX2_count_18 rfl) (r_cons (p1 := 23) mj_wi (rg_X2_1010 (p1 := 20) rfl dX2_count_20 (r_aload_n dX2_count_19 rfl)) r_nil))))))))
   (r_reti (p1 := 34) dX2_count_34 (r_asi (rk_X2_94 (p1 := 30) (p2 := 31) rfl (r_lenS r_len0) (by decide) (by decide) rfl dX2_count_31 (r_aload_n dX2_count_29 rfl) (r_cons (p1 := 31) mj_wi (r_iconst dX2_count_30 rfl) r_nil))))
   r_skip)
  (r_reti (p1 := 78) dX2_count_78 (r_cond (p1 := 39) (p2 := 46) (p3 := 78) (r_zeq_f (p1 := 36) dX2_count_36 rfl (r_iload_n dX2_count_35 rfl)) (r_egoto (p1 := 43) dX2_count_43 rfl (rg_X2_91 (p1 := 40) rfl dX2_count_40 (r_aload_n dX2_count_39 rfl))) (r_cond (p1 := 51) (p2 := 58) (p3 := 78) (r_ceq_f (p1 := 47) (p2 := 48) dX2_count_48 rfl (r_iload_n dX2_count_46 rfl) (r_iconst dX2_count_47 rfl)) (r_egoto (p1 := 55) dX2_count_55 rfl (rg_X2_1010 (p1 := 52) rfl dX2_count_52 (r_aload_n dX2_count_51 rfl))) (r_cond (p1 := 63) (p2 := 72) (p3 := 78) (r_ceq_f (p1 := 59) (p2 := 60) dX2_count_60 rfl (r_iload_n dX2_count_58 rfl) (r_iconst dX2_count_59 rfl)) (r_egoto (p1 := 69) dX2_count_69 rfl (r_iaload (p1 := 67) (p2 := 68) dX2_count_68 (rg_X2_21 (p1 := 64) rfl dX2_count_64 (r_aload_n dX2_count_63 rfl)) (r_iload_n dX2_count_67 rfl))) (r_iaload (p1 := 76) (p2 := 77) dX2_count_77 (rg_X2_24 (p1 := 73) rfl dX2_count_73 (r_aload_n dX2_count_72 rfl)) (r_iload_n dX2_count_76 rfl))))))))
noncomputable def m_X2_count : List Value → mj_H → mj_Res := mj_mk (some .int) 3 b_X2_count
theorem sd_X2_count : mj_Snd yX2_count (ws_ yX2_count cX2_count 3 (some .int)) 2 m_X2_count := mj_snd (own := RX2) (ini := false) (pE := 0) (bk := 0) (cn := 0) rfl (by decide) (fun h => nomatch h) (fun h => nomatch h) cf_X2_count
