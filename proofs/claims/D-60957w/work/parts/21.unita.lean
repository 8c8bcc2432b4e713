abbrev mi_X3_clear : mj_I := (RX3, cX3_clear, 2, 1, false, [], (fun _ => true))
noncomputable def b_X3_clear : mj_X mj_F :=
  (mx_seq (mx_seq (mx_set 1 (mx_k (0 : Int32)))
  (mx_loop (mx_cmp c_lt (mx_v 1) (mx_k (3 : Int32)))
  (mx_ast (mx_getr 1 2 (mx_vr 0)) (mx_v 1) (mx_k (0 : Int32)))
  (mx_inc 1 (1 : Int32))))
  (mx_seq (mx_put 1 10 (mx_vr 0) (mx_k (0 : Int32)))
  (mx_put 1 17 (mx_vr 0) (mx_k (0 : Int32)))))
set_option maxRecDepth 100000 in
set_option maxHeartbeats 4000000 in
theorem cf_X3_clear : mj_Sm mi_X3_clear 0 30 0 0 b_X3_clear :=
  (r_seq (p1 := 20) (r_seq (p1 := 2) (r_istore_n (p1 := 1) dX3_clear_1 rfl (by decide) (r_iconst dX3_clear_0 rfl))
  (r_loop (p1 := 7) (p2 := 14) (pE := 20) (r_clt_f (p1 := 3) (p2 := 4) dX3_clear_4 rfl (r_iload_n dX3_clear_2 rfl) (r_iconst dX3_clear_3 rfl))
  (r_iastore (p1 := 11) (p2 := 12) (p3 := 13) dX3_clear_13 (rg_X3_18 (p1 := 8) rfl dX3_clear_8 (r_aload_n dX3_clear_7 rfl)) (r_iload_n dX3_clear_11 rfl) (r_iconst dX3_clear_12 rfl))
  (r_goto (p1 := 17) dX3_clear_17 rfl (r_iinc dX3_clear_14 rfl (by decide)))))
  (r_seq (p1 := 25) (rp_X3_62 (p1 := 21) (p2 := 22) rfl dX3_clear_22 (r_aload_n dX3_clear_20 rfl) (r_iconst dX3_clear_21 rfl))
  (rp_X3_66 (p1 := 26) (p2 := 27) rfl dX3_clear_27 (r_aload_n dX3_clear_25 rfl) (r_iconst dX3_clear_26 rfl))))
noncomputable def m_X3_clear : List Value → mj_H → mj_Res := mj_mk none 2 b_X3_clear
theorem sd_X3_clear : mj_Snd yX3_clear (ws_ yX3_clear cX3_clear 2 none) 1 m_X3_clear := mj_snd (own := RX3) (ini := false) (pE := 30) (bk := 0) (cn := 0) rfl (by decide) (fun h => nomatch h) (fun _ => dX3_clear_30) cf_X3_clear
abbrev mi_X3_bytes : mj_I := (RX3, cX3_bytes, 2, 1, false, [], (fun _ => true))
noncomputable def b_X3_bytes : mj_X mj_F :=
  (mx_ret va_rf (mx_cond (mx_is z_eq (mx_v 1)) (mx_getr 1 0 (mx_vr 0)) (mx_getr 1 1 (mx_vr 0))))
set_option maxRecDepth 100000 in
set_option maxHeartbeats 4000000 in
theorem cf_X3_bytes : mj_Sm mi_X3_bytes 0 0 0 0 b_X3_bytes :=
  (r_retr (p1 := 15) dX3_bytes_15 (r_cond (p1 := 4) (p2 := 11) (p3 := 15) (r_zeq_f (p1 := 1) dX3_bytes_1 rfl (r_iload_n dX3_bytes_0 rfl)) (r_egoto (p1 := 8) dX3_bytes_8 rfl (rg_X3_9 (p1 := 5) rfl dX3_bytes_5 (r_aload_n dX3_bytes_4 rfl))) (rg_X3_15 (p1 := 12) rfl dX3_bytes_12 (r_aload_n dX3_bytes_11 rfl))))
noncomputable def m_X3_bytes : List Value → mj_H → mj_Res := mj_mk (some (.array .byte)) 2 b_X3_bytes
theorem sd_X3_bytes : mj_Snd yX3_bytes (ws_ yX3_bytes cX3_bytes 2 (some (.array .byte))) 1 m_X3_bytes := mj_snd (own := RX3) (ini := false) (pE := 0) (bk := 0) (cn := 0) rfl (by decide) (fun h => nomatch h) (fun h => nomatch h) cf_X3_bytes
theorem rk_X3_69 {μ : mj_I} {j p0 p1 p2 : Nat} {O : mj_X (Option Nat)} {Es : mj_X (List Value)} (ho : μ.1 = RX3) (hlen : ∀ σ, mj_ln 1 (Es σ)) (hfr : 2 ≤ μ.2.2.2.1) (hj : j ≤ 8) (hrg : μ.2.2.2.2.2.2 p2 = true) (d : decode μ.2.1 p2 = .ok (.invokevirtual 69, 3)) (e1 : mj_E va_rf μ j p0 p1 O) (e2 : mj_Ar μ (j + 1) p1 p2 Es) : mj_Ec μ j p0 (p2 + 3) (mx_cv 1 m_X3_bytes O Es) := r_callV (y := yX3_bytes) (ccy := cX3_bytes) (nLy := 2) (fry := 1) (n := 1) (ci := 1) (rety := (some (.array .byte))) sd_X3_bytes rfl (by decide) (by rw [ho]; exact lw_V q744 q583 q584 q126 q585) (by decide +kernel) (by decide) hlen hfr hj hrg d e1 e2
abbrev mi_X3_word : mj_I := (RX3, cX3_word, 4, 2, false, [], (fun _ => true))
noncomputable def b_X3_word : mj_X mj_F :=
  (mx_seq (mx_setr 3 (mx_asr (mx_cv 1 m_X3_bytes (mx_vr 0) (mx_cons .int (mx_v 1) mx_nil))))
  (mx_ret .int (mx_bin o_ior (mx_bin o_ior (mx_bin o_ior (mx_bin o_ishl (mx_ab (mx_vr 3) (mx_v 2)) (mx_k (24 : Int32))) (mx_bin o_ishl (mx_bin o_iand (mx_ab (mx_vr 3) (mx_bin o_iadd (mx_v 2) (mx_k (1 : Int32)))) (mx_k (255 : Int32))) (mx_k (16 : Int32)))) (mx_bin o_ishl (mx_bin o_iand (mx_ab (mx_vr 3) (mx_bin o_iadd (mx_v 2) (mx_k (2 : Int32)))) (mx_k (255 : Int32))) (mx_k (8 : Int32)))) (mx_bin o_iand (mx_ab (mx_vr 3) (mx_bin o_iadd (mx_v 2) (mx_k (3 : Int32)))) (mx_k (255 : Int32))))))
set_option maxRecDepth 100000 in
set_option maxHeartbeats 4000000 in
theorem cf_X3_word : mj_Sm mi_X3_word 0 0 0 0 b_X3_word :=
  (r_seq (p1 := 6) (r_astore_n (p1 := 5) dX3_word_5 rfl (by decide) (r_asr (rk_X3_69 (p1 := 1) (p2 := 2) rfl (r_lenS r_len0) (by decide) (by decide) rfl dX3_word_2 (r_aload_n dX3_word_0 rfl) (r_cons (p1 := 2) mj_wi (r_iload_n dX3_word_1 rfl) r_nil))))
  (r_reti (p1 := 48) dX3_word_48 (r_ior (p1 := 38) (p2 := 47) dX3_word_47 (r_ior (p1 := 25) (p2 := 37) dX3_word_37 (r_ior (p1 := 12) (p2 := 24) dX3_word_24 (r_ishl (p1 := 9) (p2 := 11) dX3_word_11 (r_baload (p1 := 7) (p2 := 8) dX3_word_8 (r_aload_n dX3_word_6 rfl) (r_iload_n dX3_word_7 rfl)) (r_bipush dX3_word_9 rfl)) (r_ishl (p1 := 21) (p2 := 23) dX3_word_23 (r_iand (p1 := 17) (p2 := 20) dX3_word_20 (r_baload (p1 := 13) (p2 := 16) dX3_word_16 (r_aload_n dX3_word_12 rfl) (r_iadd (p1 := 14) (p2 := 15) dX3_word_15 (r_iload_n dX3_word_13 rfl) (r_iconst dX3_word_14 rfl))) (r_sipush dX3_word_17 rfl)) (r_bipush dX3_word_21 rfl))) (r_ishl (p1 := 34) (p2 := 36) dX3_word_36 (r_iand (p1 := 30) (p2 := 33) dX3_word_33 (r_baload (p1 := 26) (p2 := 29) dX3_word_29 (r_aload_n dX3_word_25 rfl) (r_iadd (p1 := 27) (p2 := 28) dX3_word_28 (r_iload_n dX3_word_26 rfl) (r_iconst dX3_word_27 rfl))) (r_sipush dX3_word_30 rfl)) (r_bipush dX3_word_34 rfl))) (r_iand (p1 := 43) (p2 := 46) dX3_word_46 (r_baload (p1 := 39) (p2 := 42) dX3_word_42 (r_aload_n dX3_word_38 rfl) (r_iadd (p1 := 40) (p2 := 41) dX3_word_41 (r_iload_n dX3_word_39 rfl) (r_iconst dX3_word_40 rfl))) (r_sipush dX3_word_43 rfl)))))
noncomputable def m_X3_word : List Value → mj_H → mj_Res := mj_mk (some .int) 4 b_X3_word
theorem sd_X3_word : mj_Snd yX3_word (ws_ yX3_word cX3_word 4 (some .int)) 2 m_X3_word := mj_snd (own := RX3) (ini := false) (pE := 0) (bk := 0) (cn := 0) rfl (by decide) (fun h => nomatch h) (fun h => nomatch h) cf_X3_word
abbrev mi_X3_setWord : mj_I := (RX3, cX3_setWord, 5, 2, false, [], (fun _ => true))
noncomputable def b_X3_setWord : mj_X mj_F :=
  (mx_seq (mx_set 4 (mx_k (0 : Int32)))
  (mx_loop (mx_cmp c_lt (mx_v 4) (mx_k (4 : Int32)))
  (mx_bst (mx_asr (mx_cv 1 m_X3_bytes (mx_vr 0) (mx_cons .int (mx_v 1) mx_nil))) (mx_bin o_iadd (mx_v 2) (mx_v 4)) (mx_un o_i2b (mx_bin o_ishr (mx_v 3) (mx_bin o_isub (mx_k (24 : Int32)) (mx_bin o_imul (mx_k (8 : Int32)) (mx_v 4))))))
  (mx_inc 4 (1 : Int32))))
set_option maxRecDepth 100000 in
set_option maxHeartbeats 4000000 in
theorem cf_X3_setWord : mj_Sm mi_X3_setWord 0 36 0 0 b_X3_setWord :=
  (r_seq (p1 := 3) (r_istore (p1 := 1) dX3_setWord_1 (by decide) (r_iconst dX3_setWord_0 rfl))
  (r_loop (p1 := 9) (p2 := 30) (pE := 36) (r_clt_f (p1 := 5) (p2 := 6) dX3_setWord_6 rfl (r_iload dX3_setWord_3) (r_iconst dX3_setWord_5 rfl))
  (r_bastore (p1 := 14) (p2 := 18) (p3 := 29) dX3_setWord_29 (r_asr (rk_X3_69 (p1 := 10) (p2 := 11) rfl (r_lenS r_len0) (by decide) (by decide) rfl dX3_setWord_11 (r_aload_n dX3_setWord_9 rfl) (r_cons (p1 := 11) mj_wi (r_iload_n dX3_setWord_10 rfl) r_nil))) (r_iadd (p1 := 15) (p2 := 17) dX3_setWord_17 (r_iload_n dX3_setWord_14 rfl) (r_iload dX3_setWord_15)) (r_i2b (p2 := 28) dX3_setWord_28 (r_ishr (p1 := 19) (p2 := 27) dX3_setWord_27 (r_iload_n dX3_setWord_18 rfl) (r_isub (p1 := 21) (p2 := 26) dX3_setWord_26 (r_bipush dX3_setWord_19 rfl) (r_imul (p1 := 23) (p2 := 25) dX3_setWord_25 (r_bipush dX3_setWord_21 rfl) (r_iload dX3_setWord_23))))))
  (r_goto (p1 := 33) dX3_setWord_33 rfl (r_iinc dX3_setWord_30 rfl (by decide)))))
noncomputable def m_X3_setWord : List Value → mj_H → mj_Res := mj_mk none 5 b_X3_setWord
theorem sd_X3_setWord : mj_Snd yX3_setWord (ws_ yX3_setWord cX3_setWord 5 none) 2 m_X3_setWord := mj_snd (own := RX3) (ini := false) (pE := 36) (bk := 0) (cn := 0) rfl (by decide) (fun h => nomatch h) (fun _ => dX3_setWord_36) cf_X3_setWord
abbrev mi_X3_same : mj_I := (RX3, cX3_same, 6, 1, false, [], (fun _ => true))
noncomputable def b_X3_same : mj_X mj_F :=
  (mx_seq (mx_set 4 (mx_cond (mx_cmp c_eq (mx_ai (mx_getr 1 4 (mx_vr 0)) (mx_v 1)) (mx_ai (mx_getr 1 4 (mx_vr 2)) (mx_v 3))) (mx_k (1 : Int32)) (mx_k (0 : Int32))))
  (mx_seq (mx_seq (mx_set 5 (mx_k (0 : Int32)))
  (mx_loop (mx_and (mx_cmp c_lt (mx_v 5) (mx_ai (mx_getr 1 4 (mx_vr 0)) (mx_v 1))) (mx_is z_ne (mx_v 4)))
  (mx_set 4 (mx_cond (mx_cmp c_eq (mx_ab (mx_getr 1 3 (mx_vr 0)) (mx_bin o_iadd (mx_bin o_imul (mx_k (24 : Int32)) (mx_v 1)) (mx_v 5))) (mx_ab (mx_getr 1 3 (mx_vr 2)) (mx_bin o_iadd (mx_bin o_imul (mx_k (24 : Int32)) (mx_v 3)) (mx_v 5)))) (mx_k (1 : Int32)) (mx_k (0 : Int32))))
  (mx_inc 5 (1 : Int32))))
  (mx_ret .int (mx_v 4))))
set_option maxRecDepth 100000 in
set_option maxHeartbeats 4000000 in
theorem cf_X3_same : mj_Sm mi_X3_same 0 0 0 0 b_X3_same :=
  (r_seq (p1 := 22) (r_istore (p1 := 20) dX3_same_20 (by decide) (r_cond (p1 := 15) (p2 := 19) (p3 := 20) (r_ceq_f (p1 := 6) (p2 := 12) dX3_same_12 rfl (r_iaload (p1 := 4) (p2 := 5) dX3_same_5 (rg_X3_25 (p1 := 1) rfl dX3_same_1 (r_aload_n dX3_same_0 rfl)) (r_iload_n dX3_same_4 rfl)) (r_iaload (p1 := 10) (p2 := 11) dX3_same_11 (rg_X3_25 (p1 := 7) rfl dX3_same_7 (r_aload_n dX3_same_6 rfl)) (r_iload_n dX3_same_10 rfl))) (r_egoto (p1 := 16) dX3_same_16 rfl (r_iconst dX3_same_15 rfl)) (r_iconst dX3_same_19 rfl)))
  (r_seq (p1 := 81) (r_seq (p1 := 25) (r_istore (p1 := 23) dX3_same_23 (by decide) (r_iconst dX3_same_22 rfl))
  (r_loop (p1 := 41) (p2 := 75) (pE := 81) (r_and (p1 := 36) (p2 := 41) (p3 := 81) (r_clt_f (p1 := 27) (p2 := 33) dX3_same_33 rfl (r_iload dX3_same_25) (r_iaload (p1 := 31) (p2 := 32) dX3_same_32 (rg_X3_25 (p1 := 28) rfl dX3_same_28 (r_aload_n dX3_same_27 rfl)) (r_iload_n dX3_same_31 rfl))) (r_zne_f (p1 := 38) dX3_same_38 rfl (r_iload dX3_same_36)))
  (r_istore (p1 := 73) dX3_same_73 (by decide) (r_cond (p1 := 68) (p2 := 72) (p3 := 73) (r_ceq_f (p1 := 53) (p2 := 65) dX3_same_65 rfl (r_baload (p1 := 45) (p2 := 52) dX3_same_52 (rg_X3_22 (p1 := 42) rfl dX3_same_42 (r_aload_n dX3_same_41 rfl)) (r_iadd (p1 := 49) (p2 := 51) dX3_same_51 (r_imul (p1 := 47) (p2 := 48) dX3_same_48 (r_bipush dX3_same_45 rfl) (r_iload_n dX3_same_47 rfl)) (r_iload dX3_same_49))) (r_baload (p1 := 57) (p2 := 64) dX3_same_64 (rg_X3_22 (p1 := 54) rfl dX3_same_54 (r_aload_n dX3_same_53 rfl)) (r_iadd (p1 := 61) (p2 := 63) dX3_same_63 (r_imul (p1 := 59) (p2 := 60) dX3_same_60 (r_bipush dX3_same_57 rfl) (r_iload_n dX3_same_59 rfl)) (r_iload dX3_same_61)))) (r_egoto (p1 := 69) dX3_same_69 rfl (r_iconst dX3_same_68 rfl)) (r_iconst dX3_same_72 rfl)))
  (r_goto (p1 := 78) dX3_same_78 rfl (r_iinc dX3_same_75 rfl (by decide)))))
  (r_reti (p1 := 83) dX3_same_83 (r_iload dX3_same_81))))
noncomputable def m_X3_same : List Value → mj_H → mj_Res := mj_mk (some .boolean) 6 b_X3_same
theorem sd_X3_same : mj_Snd yX3_same (ws_ yX3_same cX3_same 6 (some .boolean)) 1 m_X3_same := mj_snd (own := RX3) (ini := false) (pE := 0) (bk := 0) (cn := 0) rfl (by decide) (fun h => nomatch h) (fun h => nomatch h) cf_X3_same
abbrev mi_X3_isOpen : mj_I := (RX3, cX3_isOpen, 2, 1, false, [], (fun _ => true))
noncomputable def b_X3_isOpen : mj_X mj_F :=
  (mx_ret .int (mx_cond (mx_cmp c_eq (mx_ai (mx_getr 1 5 (mx_vr 0)) (mx_v 1)) (mx_k (-1 : Int32))) (mx_k (1 : Int32)) (mx_k (0 : Int32))))
set_option maxRecDepth 100000 in
set_option maxHeartbeats 4000000 in
theorem cf_X3_isOpen : mj_Sm mi_X3_isOpen 0 0 0 0 b_X3_isOpen :=
  (r_reti (p1 := 15) dX3_isOpen_15 (r_cond (p1 := 10) (p2 := 14) (p3 := 15) (r_ceq_f (p1 := 6) (p2 := 7) dX3_isOpen_7 rfl (r_iaload (p1 := 4) (p2 := 5) dX3_isOpen_5 (rg_X3_28 (p1 := 1) rfl dX3_isOpen_1 (r_aload_n dX3_isOpen_0 rfl)) (r_iload_n dX3_isOpen_4 rfl)) (r_iconst dX3_isOpen_6 rfl)) (r_egoto (p1 := 11) dX3_isOpen_11 rfl (r_iconst dX3_isOpen_10 rfl)) (r_iconst dX3_isOpen_14 rfl)))
noncomputable def m_X3_isOpen : List Value → mj_H → mj_Res := mj_mk (some .boolean) 2 b_X3_isOpen
theorem sd_X3_isOpen : mj_Snd yX3_isOpen (ws_ yX3_isOpen cX3_isOpen 2 (some .boolean)) 1 m_X3_isOpen := mj_snd (own := RX3) (ini := false) (pE := 0) (bk := 0) (cn := 0) rfl (by decide) (fun h => nomatch h) (fun h => nomatch h) cf_X3_isOpen
abbrev mi_X3_drop : mj_I := (RX3, cX3_drop, 3, 1, false, [], (fun _ => true))
noncomputable def b_X3_drop : mj_X mj_F :=
  (mx_seq (mx_upd 1 17 o_isub (mx_vr 0) (mx_k (1 : Int32)))
  (mx_seq (mx_set 2 (mx_v 1))
  (mx_loop (mx_cmp c_lt (mx_v 2) (mx_get 1 17 (mx_vr 0)))
  (mx_seq (mx_ast (mx_getr 1 11 (mx_vr 0)) (mx_v 2) (mx_ai (mx_getr 1 11 (mx_vr 0)) (mx_bin o_iadd (mx_v 2) (mx_k (1 : Int32)))))
  (mx_seq (mx_ast (mx_getr 1 12 (mx_vr 0)) (mx_v 2) (mx_ai (mx_getr 1 12 (mx_vr 0)) (mx_bin o_iadd (mx_v 2) (mx_k (1 : Int32)))))
  (mx_seq (mx_ast (mx_getr 1 13 (mx_vr 0)) (mx_v 2) (mx_ai (mx_getr 1 13 (mx_vr 0)) (mx_bin o_iadd (mx_v 2) (mx_k (1 : Int32)))))
  (mx_seq (mx_ast (mx_getr 1 14 (mx_vr 0)) (mx_v 2) (mx_ai (mx_getr 1 14 (mx_vr 0)) (mx_bin o_iadd (mx_v 2) (mx_k (1 : Int32)))))
  (mx_seq (mx_ast (mx_getr 1 15 (mx_vr 0)) (mx_v 2) (mx_ai (mx_getr 1 15 (mx_vr 0)) (mx_bin o_iadd (mx_v 2) (mx_k (1 : Int32)))))
  (mx_ast (mx_getr 1 16 (mx_vr 0)) (mx_v 2) (mx_ai (mx_getr 1 16 (mx_vr 0)) (mx_bin o_iadd (mx_v 2) (mx_k (1 : Int32))))))))))
  (mx_inc 2 (1 : Int32)))))
set_option maxRecDepth 100000 in
set_option maxHeartbeats 4000000 in
theorem cf_X3_drop : mj_Sm mi_X3_drop 0 110 0 0 b_X3_drop :=
  (r_seq (p1 := 10) (ru_X3_66 (p1 := 1) (p2 := 6) rfl dX3_drop_1 dX3_drop_2 dX3_drop_7 (fun K Z C L st h a b k => mj_isub C dX3_drop_6 k) (r_aload_n dX3_drop_0 rfl) (r_iconst dX3_drop_5 rfl))
  (r_seq (p1 := 12) (r_istore_n (p1 := 11) dX3_drop_11 rfl (by decide) (r_iload_n dX3_drop_10 rfl))
  (r_loop (p1 := 20) (p2 := 104) (pE := 110) (r_clt_f (p1 := 13) (p2 := 17) dX3_drop_17 rfl (r_iload_n dX3_drop_12 rfl) (rg_X3_66 (p1 := 14) rfl dX3_drop_14 (r_aload_n dX3_drop_13 rfl)))
  (r_seq (p1 := 34) (r_iastore (p1 := 24) (p2 := 25) (p3 := 33) dX3_drop_33 (rg_X3_44 (p1 := 21) rfl dX3_drop_21 (r_aload_n dX3_drop_20 rfl)) (r_iload_n dX3_drop_24 rfl) (r_iaload (p1 := 29) (p2 := 32) dX3_drop_32 (rg_X3_44 (p1 := 26) rfl dX3_drop_26 (r_aload_n dX3_drop_25 rfl)) (r_iadd (p1 := 30) (p2 := 31) dX3_drop_31 (r_iload_n dX3_drop_29 rfl) (r_iconst dX3_drop_30 rfl))))
  (r_seq (p1 := 48) (r_iastore (p1 := 38) (p2 := 39) (p3 := 47) dX3_drop_47 (rg_X3_47 (p1 := 35) rfl dX3_drop_35 (r_aload_n dX3_drop_34 rfl)) (r_iload_n dX3_drop_38 rfl) (r_iaload (p1 := 43) (p2 := 46) dX3_drop_46 (rg_X3_47 (p1 := 40) rfl dX3_drop_40 (r_aload_n dX3_drop_39 rfl)) (r_iadd (p1 := 44) (p2 := 45) dX3_drop_45 (r_iload_n dX3_drop_43 rfl) (r_iconst dX3_drop_44 rfl))))
  (r_seq (p1 := 62) (r_iastore (p1 := 52) (p2 := 53) (p3 := 61) dX3_drop_61 (rg_X3_50 (p1 := 49) rfl dX3_drop_49 (r_aload_n dX3_drop_48 rfl)) (r_iload_n dX3_drop_52 rfl) (r_iaload (p1 := 57) (p2 := 60) dX3_drop_60 (rg_X3_50 (p1 := 54) rfl dX3_drop_54 (r_aload_n dX3_drop_53 rfl)) (r_iadd (p1 := 58) (p2 := 59) dX3_drop_59 (r_iload_n dX3_drop_57 rfl) (r_iconst dX3_drop_58 rfl))))
  (r_seq (p1 := 76) (r_iastore (p1 := 66) (p2 := 67) (p3 := 75) dX3_drop_75 (rg_X3_53 (p1 := 63) rfl dX3_drop_63 (r_aload_n dX3_drop_62 rfl)) (r_iload_n dX3_drop_66 rfl) (r_iaload (p1 := 71) (p2 := 74) dX3_drop_74 (rg_X3_53 (p1 := 68) rfl dX3_drop_68 (r_aload_n dX3_drop_67 rfl)) (r_iadd (p1 := 72) (p2 := 73) dX3_drop_73 (r_iload_n dX3_drop_71 rfl) (r_iconst dX3_drop_72 rfl))))
  (r_seq (p1 := 90) (r_iastore (p1 := 80) (p2 := 81) (p3 := 89) dX3_drop_89 (rg_X3_56 (p1 := 77) rfl dX3_drop_77 (r_aload_n dX3_drop_76 rfl)) (r_iload_n dX3_drop_80 rfl) (r_iaload (p1 := 85) (p2 := 88) dX3_drop_88 (rg_X3_56 (p1 := 82) rfl dX3_drop_82 (r_aload_n dX3_drop_81 rfl)) (r_iadd (p1 := 86) (p2 := 87) dX3_drop_87 (r_iload_n dX3_drop_85 rfl) (r_iconst dX3_drop_86 rfl))))
  (r_iastore (p1 := 94) (p2 := 95) (p3 := 103) dX3_drop_103 (rg_X3_59 (p1 := 91) rfl dX3_drop_91 (r_aload_n dX3_drop_90 rfl)) (r_iload_n dX3_drop_94 rfl) (r_iaload (p1 := 99) (p2 := 102) dX3_drop_102 (rg_X3_59 (p1 := 96) rfl dX3_drop_96 (r_aload_n dX3_drop_95 rfl)) (r_iadd (p1 := 100) (p2 := 101) dX3_drop_101 (r_iload_n dX3_drop_99 rfl) (r_iconst dX3_drop_100 rfl)))))))))
  (r_goto (p1 := 107) dX3_drop_107 rfl (r_iinc dX3_drop_104 rfl (by decide))))))
noncomputable def m_X3_drop : List Value → mj_H → mj_Res := mj_mk none 3 b_X3_drop
theorem sd_X3_drop : mj_Snd yX3_drop (ws_ yX3_drop cX3_drop 3 none) 1 m_X3_drop := mj_snd (own := RX3) (ini := false) (pE := 110) (bk := 0) (cn := 0) rfl (by decide) (fun h => nomatch h) (fun _ => dX3_drop_110) cf_X3_drop
theorem ro_X3 {μ : mj_I} {bk cn : Nat} {k0 : Fin 4} (ho : μ.1 = RX3) (hfr : 1 ≤ μ.2.2.2.1) (d0 : decode μ.2.1 0 = .ok (.aload_n k0, 1)) (hk : (k0 : Nat) = 0) (d1 : decode μ.2.1 1 = .ok (.invokespecial 3, 3)) : mj_Sm μ 0 4 bk cn mx_oi := r_oi (by rw [ho]; exact q332) hfr d0 hk d1
abbrev mi_X3_init : mj_I := (RX3, cX3_init, 1, 1, true, [], (fun _ => true))
noncomputable def b_X3_init : mj_X mj_F :=
  (mx_seq mx_oi
  (mx_seq (mx_putr 1 0 (mx_vr 0) (mx_newa 0 4096))
  (mx_seq (mx_putr 1 1 (mx_vr 0) (mx_newa 0 4096))
  (mx_seq (mx_putr 1 2 (mx_vr 0) (mx_newa 1 3))
  (mx_seq (mx_putr 1 3 (mx_vr 0) (mx_newa 0 1536))
  (mx_seq (mx_putr 1 4 (mx_vr 0) (mx_newa 1 64))
  (mx_seq (mx_putr 1 5 (mx_vr 0) (mx_newa 1 64))
  (mx_seq (mx_putr 1 6 (mx_vr 0) (mx_newa 1 64))
  (mx_seq (mx_putr 1 7 (mx_vr 0) (mx_newa 3 64))
  (mx_seq (mx_putr 1 8 (mx_vr 0) (mx_newa 1 64))
  (mx_seq (mx_putr 1 9 (mx_vr 0) (mx_newa 1 3))
  (mx_seq (mx_putr 1 11 (mx_vr 0) (mx_newa 1 256))
  (mx_seq (mx_putr 1 12 (mx_vr 0) (mx_newa 1 256))
  (mx_seq (mx_putr 1 13 (mx_vr 0) (mx_newa 1 256))
  (mx_seq (mx_putr 1 14 (mx_vr 0) (mx_newa 1 256))
  (mx_seq (mx_putr 1 15 (mx_vr 0) (mx_newa 1 256))
  (mx_putr 1 16 (mx_vr 0) (mx_newa 1 256))))))))))))))))))
set_option maxRecDepth 100000 in
set_option maxHeartbeats 4000000 in
theorem cf_X3_init : mj_Sm mi_X3_init 0 139 0 0 b_X3_init :=
  (r_seq (p1 := 4) (ro_X3 rfl (by decide) dX3_init_0 rfl dX3_init_1)
  (r_seq (p1 := 13) (rp_X3_9 (p1 := 5) (p2 := 10) rfl rfl dX3_init_10 (r_aload_n dX3_init_4 rfl) (r_newa (atype := .byte) (n := (4096 : Int32)) (p1 := 8) (fun _ => rfl) q220 (by decide) rfl (by decide +kernel) (by decide +kernel) (by decide +kernel) dX3_init_8 (r_sipush dX3_init_5 rfl)))
  (r_seq (p1 := 22) (rp_X3_15 (p1 := 14) (p2 := 19) rfl rfl dX3_init_19 (r_aload_n dX3_init_13 rfl) (r_newa (atype := .byte) (n := (4096 : Int32)) (p1 := 17) (fun _ => rfl) q220 (by decide) rfl (by decide +kernel) (by decide +kernel) (by decide +kernel) dX3_init_17 (r_sipush dX3_init_14 rfl)))
  (r_seq (p1 := 29) (rp_X3_18 (p1 := 23) (p2 := 26) rfl rfl dX3_init_26 (r_aload_n dX3_init_22 rfl) (r_newa (atype := .int) (n := (3 : Int32)) (p1 := 24) (fun _ => rfl) q404 (by decide) rfl (by decide +kernel) (by decide +kernel) (by decide +kernel) dX3_init_24 (r_iconst dX3_init_23 rfl)))
  (r_seq (p1 := 38) (rp_X3_22 (p1 := 30) (p2 := 35) rfl rfl dX3_init_35 (r_aload_n dX3_init_29 rfl) (r_newa (atype := .byte) (n := (1536 : Int32)) (p1 := 33) (fun _ => rfl) q220 (by decide) rfl (by decide +kernel) (by decide +kernel) (by decide +kernel) dX3_init_33 (r_sipush dX3_init_30 rfl)))
  (r_seq (p1 := 46) (rp_X3_25 (p1 := 39) (p2 := 43) rfl rfl dX3_init_43 (r_aload_n dX3_init_38 rfl) (r_newa (atype := .int) (n := (64 : Int32)) (p1 := 41) (fun _ => rfl) q404 (by decide) rfl (by decide +kernel) (by decide +kernel) (by decide +kernel) dX3_init_41 (r_bipush dX3_init_39 rfl)))
  (r_seq (p1 := 54) (rp_X3_28 (p1 := 47) (p2 := 51) rfl rfl dX3_init_51 (r_aload_n dX3_init_46 rfl) (r_newa (atype := .int) (n := (64 : Int32)) (p1 := 49) (fun _ => rfl) q404 (by decide) rfl (by decide +kernel) (by decide +kernel) (by decide +kernel) dX3_init_49 (r_bipush dX3_init_47 rfl)))
  (r_seq (p1 := 62) (rp_X3_31 (p1 := 55) (p2 := 59) rfl rfl dX3_init_59 (r_aload_n dX3_init_54 rfl) (r_newa (atype := .int) (n := (64 : Int32)) (p1 := 57) (fun _ => rfl) q404 (by decide) rfl (by decide +kernel) (by decide +kernel) (by decide +kernel) dX3_init_57 (r_bipush dX3_init_55 rfl)))
  (r_seq (p1 := 70) (rp_X3_34 (p1 := 63) (p2 := 67) rfl rfl dX3_init_67 (r_aload_n dX3_init_62 rfl) (r_newa (atype := .boolean) (n := (64 : Int32)) (p1 := 65) (fun _ => rfl) q405 (by decide) rfl (by decide +kernel) (by decide +kernel) (by decide +kernel) dX3_init_65 (r_bipush dX3_init_63 rfl)))
  (r_seq (p1 := 78) (rp_X3_38 (p1 := 71) (p2 := 75) rfl rfl dX3_init_75 (r_aload_n dX3_init_70 rfl) (r_newa (atype := .int) (n := (64 : Int32)) (p1 := 73) (fun _ => rfl) q404 (by decide) rfl (by decide +kernel) (by decide +kernel) (by decide +kernel) dX3_init_73 (r_bipush dX3_init_71 rfl)))
  (r_seq (p1 := 85) (rp_X3_41 (p1 := 79) (p2 := 82) rfl rfl dX3_init_82 (r_aload_n dX3_init_78 rfl) (r_newa (atype := .int) (n := (3 : Int32)) (p1 := 80) (fun _ => rfl) q404 (by decide) rfl (by decide +kernel) (by decide +kernel) (by decide +kernel) dX3_init_80 (r_iconst dX3_init_79 rfl)))
  (r_seq (p1 := 94) (rp_X3_44 (p1 := 86) (p2 := 91) rfl rfl dX3_init_91 (r_aload_n dX3_init_85 rfl) (r_newa (atype := .int) (n := (256 : Int32)) (p1 := 89) (fun _ => rfl) q404 (by decide) rfl (by decide +kernel) (by decide +kernel) (by decide +kernel) dX3_init_89 (r_sipush dX3_init_86 rfl)))
  (r_seq (p1 := 103) (rp_X3_47 (p1 := 95) (p2 := 100) rfl rfl dX3_init_100 (r_aload_n dX3_init_94 rfl) (r_newa (atype := .int) (n := (256 : Int32)) (p1 := 98) (fun _ => rfl) q404 (by decide) rfl (by decide +kernel) (by decide +kernel) (by decide +kernel) dX3_init_98 (r_sipush dX3_init_95 rfl)))
  (r_seq (p1 := 112) (rp_X3_50 (p1 := 104) (p2 := 109) rfl rfl dX3_init_109 (r_aload_n dX3_init_103 rfl) (r_newa (atype := .int) (n := (256 : Int32)) (p1 := 107) (fun _ => rfl) q404 (by decide) rfl (by decide +kernel) (by decide +kernel) (by decide +kernel) dX3_init_107 (r_sipush dX3_init_104 rfl)))
  (r_seq (p1 := 121) (rp_X3_53 (p1 := 113) (p2 := 118) rfl rfl dX3_init_118 (r_aload_n dX3_init_112 rfl) (r_newa (atype := .int) (n := (256 : Int32)) (p1 := 116) (fun _ => rfl) q404 (by decide) rfl (by decide +kernel) (by decide +kernel) (by decide +kernel) dX3_init_116 (r_sipush dX3_init_113 rfl)))
  (r_seq (p1 := 130) (rp_X3_56 (p1 := 122) (p2 := 127) rfl rfl dX3_init_127 (r_aload_n dX3_init_121 rfl) (r_newa (atype := .int) (n := (256 : Int32)) (p1 := 125) (fun _ => rfl) q404 (by decide) rfl (by decide +kernel) (by decide +kernel) (by decide +kernel) dX3_init_125 (r_sipush dX3_init_122 rfl)))
  (rp_X3_59 (p1 := 131) (p2 := 136) rfl rfl dX3_init_136 (r_aload_n dX3_init_130 rfl) (r_newa (atype := .int) (n := (256 : Int32)) (p1 := 134) (fun _ => rfl) q404 (by decide) rfl (by decide +kernel) (by decide +kernel) (by decide +kernel) dX3_init_134 (r_sipush dX3_init_131 rfl)))))))))))))))))))
noncomputable def m_X3_init : List Value → mj_H → mj_Res := mj_mk none 1 b_X3_init
theorem sd_X3_init : mj_Snd yX3_init (ws_ yX3_init cX3_init 1 none) 1 m_X3_init := mj_snd (own := RX3) (ini := true) (pE := 139) (bk := 0) (cn := 0) rfl (by decide) (fun _ => rfl) (fun _ => dX3_init_139) cf_X3_init
