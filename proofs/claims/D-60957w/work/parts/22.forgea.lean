theorem ro_X1 {μ : mj_I} {bk cn : Nat} {k0 : Fin 4} (ho : μ.1 = RX1) (hfr : 1 ≤ μ.2.2.2.1) (d0 : decode μ.2.1 0 = .ok (.aload_n k0, 1)) (hk : (k0 : Nat) = 0) (d1 : decode μ.2.1 1 = .ok (.invokespecial 1, 3)) : mj_Sm μ 0 4 bk cn mx_oi := r_oi (by rw [ho]; exact q138) hfr d0 hk d1
abbrev mi_X1_init : mj_I := (RX1, cX1_init, 1, 1, true, [], (fun _ => true))
noncomputable def b_X1_init : mj_X mj_F :=
  (mx_seq mx_oi
  (mx_seq (mx_putr 0 0 (mx_vr 0) (mx_newa 0 8192))
  (mx_seq (mx_putr 0 5 (mx_vr 0) (mx_newa 4 8))
  (mx_seq (mx_put 0 16 (mx_vr 0) (mx_k (-1 : Int32)))
  (mx_seq (mx_put 0 17 (mx_vr 0) (mx_k (-1 : Int32)))
  (mx_seq (mx_putr 0 18 (mx_vr 0) (mx_newa 0 32768))
  (mx_put 0 19 (mx_vr 0) (mx_k (-1 : Int32)))))))))
set_option maxRecDepth 100000 in
set_option maxHeartbeats 4000000 in
theorem cf_X1_init : mj_Sm mi_X1_init 0 45 0 0 b_X1_init :=
  (r_seq (p1 := 4) (ro_X1 rfl (by decide) dX1_init_0 rfl dX1_init_1)
  (r_seq (p1 := 13) (rp_X1_9 (p1 := 5) (p2 := 10) rfl rfl dX1_init_10 (r_aload_n dX1_init_4 rfl) (r_newa (atype := .byte) (n := (8192 : Int32)) (p1 := 8) (fun _ => rfl) q220 (by decide) rfl (by decide +kernel) (by decide +kernel) (by decide +kernel) dX1_init_8 (r_sipush dX1_init_5 rfl)))
  (r_seq (p1 := 22) (rp_X1_15 (p1 := 14) (p2 := 19) rfl rfl dX1_init_19 (r_aload_n dX1_init_13 rfl) (r_newq (n := (8 : Int32)) (p1 := 16) (fun _ => rfl) q141 (by decide +kernel) (by decide +kernel) (by decide +kernel) dX1_init_16 (r_bipush dX1_init_14 rfl)))
  (r_seq (p1 := 27) (rp_X1_19 (p1 := 23) (p2 := 24) rfl dX1_init_24 (r_aload_n dX1_init_22 rfl) (r_iconst dX1_init_23 rfl))
  (r_seq (p1 := 32) (rp_X1_23 (p1 := 28) (p2 := 29) rfl dX1_init_29 (r_aload_n dX1_init_27 rfl) (r_iconst dX1_init_28 rfl))
  (r_seq (p1 := 40) (rp_X1_27 (p1 := 33) (p2 := 37) rfl rfl dX1_init_37 (r_aload_n dX1_init_32 rfl) (r_newa (atype := .byte) (n := (32768 : Int32)) (p1 := 35) (fun _ => rfl) q220 (by decide) rfl (by decide +kernel) (by decide +kernel) (by decide +kernel) dX1_init_35 (r_ldc dX1_init_33 q143)))
  (rp_X1_30 (p1 := 41) (p2 := 42) rfl dX1_init_42 (r_aload_n dX1_init_40 rfl) (r_iconst dX1_init_41 rfl))))))))
noncomputable def m_X1_init : List Value → mj_H → mj_Res := mj_mk none 1 b_X1_init
theorem sd_X1_init : mj_Snd yX1_init (ws_ yX1_init cX1_init 1 none) 1 m_X1_init := mj_snd (own := RX1) (ini := true) (pE := 45) (bk := 0) (cn := 0) rfl (by decide) (fun _ => rfl) (fun _ => dX1_init_45) cf_X1_init
theorem rt_X1_J9 {μ : mj_I} {p0 p1 bk cn : Nat} (hfr : 6 ≤ μ.2.2.2.1) (hrg : μ.2.2.2.2.2.2 (p0 + 7) = true) (d0 : decode μ.2.1 p0 = .ok (.new 33, 3)) (d3 : decode μ.2.1 (p0 + 3) = .ok (.dup, 1)) (d4 : decode μ.2.1 (p0 + 4) = .ok (.invokespecial 35, 3)) (d7 : decode μ.2.1 (p0 + 7) = .ok (.athrow, 1)) (ho : μ.1 = RX1 := by rfl) : mj_Sm μ p0 p1 bk cn (mx_thr 5) := r_thr (Cn := RJ9) (ik := 33) (ic := 35) (names := mj_nms) rfl (by decide) (by decide) (by decide) (by decide) (by rw [ho]; exact q795) q131 (by rw [ho]; exact mj_at_J9) (by rw [ho]; exact mj_ot_J9) hfr hrg d0 d3 d4 d7
abbrev mi_X1_there : mj_I := (RX1, cX1_there, 1, 6, false, [], (fun _ => true))
noncomputable def b_X1_there : mj_X mj_F :=
  (mx_if (mx_not (mx_is z_ne (mx_v 0)))
   (mx_thr 5)
   mx_skip)
set_option maxRecDepth 100000 in
set_option maxHeartbeats 4000000 in
theorem cf_X1_there : mj_Sm mi_X1_there 0 12 0 0 b_X1_there :=
  (r_if (p1 := 4) (p2 := 12) (p3 := 12) (r_not (r_zne_t (p1 := 1) dX1_there_1 rfl (r_iload_n dX1_there_0 rfl)))
   (rt_X1_J9 (by decide) rfl dX1_there_4 dX1_there_7 dX1_there_8 dX1_there_11)
   r_skip)
noncomputable def m_X1_there : List Value → mj_H → mj_Res := mj_mk none 1 b_X1_there
theorem sd_X1_there : mj_Snd yX1_there (ws_ yX1_there cX1_there 1 none) 6 m_X1_there := mj_snd (own := RX1) (ini := false) (pE := 12) (bk := 0) (cn := 0) rfl (by decide) (fun h => nomatch h) (fun _ => dX1_there_12) cf_X1_there
theorem rt_X1_J3 {μ : mj_I} {p0 p1 bk cn : Nat} (hfr : 6 ≤ μ.2.2.2.1) (hrg : μ.2.2.2.2.2.2 (p0 + 7) = true) (d0 : decode μ.2.1 p0 = .ok (.new 39, 3)) (d3 : decode μ.2.1 (p0 + 3) = .ok (.dup, 1)) (d4 : decode μ.2.1 (p0 + 4) = .ok (.invokespecial 41, 3)) (d7 : decode μ.2.1 (p0 + 7) = .ok (.athrow, 1)) (ho : μ.1 = RX1 := by rfl) : mj_Sm μ p0 p1 bk cn (mx_thr 3) := r_thr (Cn := RJ3) (ik := 39) (ic := 41) (names := mj_nms) rfl (by decide) (by decide) (by decide) (by decide) (by rw [ho]; exact q233) q124 (by rw [ho]; exact mj_at_J3) (by rw [ho]; exact mj_ot_J3) hfr hrg d0 d3 d4 d7
abbrev mi_X1_feed : mj_I := (RX1, cX1_feed, 7, 6, false, [], (fun _ => true))
noncomputable def b_X1_feed : mj_X mj_F :=
  (mx_seq (mx_if (mx_cmp c_gt (mx_bin o_iadd (mx_get 0 1 (mx_vr 0)) (mx_k (16 : Int32))) (mx_k (8192 : Int32)))
   (mx_thr 3)
   mx_skip)
  (mx_seq (mx_seq (mx_set 5 (mx_k (0 : Int32)))
  (mx_loop (mx_cmp c_lt (mx_v 5) (mx_k (16 : Int32)))
  (mx_seq (mx_set 6 (mx_cond (mx_cmp c_lt (mx_v 5) (mx_k (4 : Int32))) (mx_v 1) (mx_cond (mx_cmp c_lt (mx_v 5) (mx_k (8 : Int32))) (mx_v 2) (mx_cond (mx_cmp c_lt (mx_v 5) (mx_k (12 : Int32))) (mx_v 3) (mx_v 4)))))
  (mx_seq (mx_bst (mx_getr 0 0 (mx_vr 0)) (mx_get 0 1 (mx_vr 0)) (mx_un o_i2b (mx_bin o_ishr (mx_v 6) (mx_bin o_isub (mx_k (24 : Int32)) (mx_bin o_imul (mx_k (8 : Int32)) (mx_bin o_iand (mx_v 5) (mx_k (3 : Int32))))))))
  (mx_upd 0 1 o_iadd (mx_vr 0) (mx_k (1 : Int32)))))
  (mx_inc 5 (1 : Int32))))
  (mx_ret .int (mx_get 0 1 (mx_vr 0)))))
set_option maxRecDepth 100000 in
set_option maxHeartbeats 4000000 in
theorem cf_X1_feed : mj_Sm mi_X1_feed 0 0 0 0 b_X1_feed :=
  (r_seq (p1 := 21) (r_if (p1 := 13) (p2 := 21) (p3 := 21) (r_cgt_f (p1 := 7) (p2 := 10) dX1_feed_10 rfl (r_iadd (p1 := 4) (p2 := 6) dX1_feed_6 (rg_X1_36 (p1 := 1) rfl dX1_feed_1 (r_aload_n dX1_feed_0 rfl)) (r_bipush dX1_feed_4 rfl)) (r_sipush dX1_feed_7 rfl))
   (rt_X1_J3 (by decide) rfl dX1_feed_13 dX1_feed_16 dX1_feed_17 dX1_feed_20)
   r_skip)
  (r_seq (p1 := 106) (r_seq (p1 := 24) (r_istore (p1 := 22) dX1_feed_22 (by decide) (r_iconst dX1_feed_21 rfl))
  (r_loop (p1 := 31) (p2 := 100) (pE := 106) (r_clt_f (p1 := 26) (p2 := 28) dX1_feed_28 rfl (r_iload dX1_feed_24) (r_bipush dX1_feed_26 rfl))
  (r_seq (p1 := 67) (r_istore (p1 := 65) dX1_feed_65 (by decide) (r_cond (p1 := 37) (p2 := 41) (p3 := 65) (r_clt_f (p1 := 33) (p2 := 34) dX1_feed_34 rfl (r_iload dX1_feed_31) (r_iconst dX1_feed_33 rfl)) (r_egoto (p1 := 38) dX1_feed_38 rfl (r_iload_n dX1_feed_37 rfl)) (r_cond (p1 := 48) (p2 := 52) (p3 := 65) (r_clt_f (p1 := 43) (p2 := 45) dX1_feed_45 rfl (r_iload dX1_feed_41) (r_bipush dX1_feed_43 rfl)) (r_egoto (p1 := 49) dX1_feed_49 rfl (r_iload_n dX1_feed_48 rfl)) (r_cond (p1 := 59) (p2 := 63) (p3 := 65) (r_clt_f (p1 := 54) (p2 := 56) dX1_feed_56 rfl (r_iload dX1_feed_52) (r_bipush dX1_feed_54 rfl)) (r_egoto (p1 := 60) dX1_feed_60 rfl (r_iload_n dX1_feed_59 rfl)) (r_iload dX1_feed_63)))))
  (r_seq (p1 := 90) (r_bastore (p1 := 71) (p2 := 75) (p3 := 89) dX1_feed_89 (rg_X1_9 (p1 := 68) rfl dX1_feed_68 (r_aload_n dX1_feed_67 rfl)) (rg_X1_36 (p1 := 72) rfl dX1_feed_72 (r_aload_n dX1_feed_71 rfl)) (r_i2b (p2 := 88) dX1_feed_88 (r_ishr (p1 := 77) (p2 := 87) dX1_feed_87 (r_iload dX1_feed_75) (r_isub (p1 := 79) (p2 := 86) dX1_feed_86 (r_bipush dX1_feed_77 rfl) (r_imul (p1 := 81) (p2 := 85) dX1_feed_85 (r_bipush dX1_feed_79 rfl) (r_iand (p1 := 83) (p2 := 84) dX1_feed_84 (r_iload dX1_feed_81) (r_iconst dX1_feed_83 rfl)))))))
  (ru_X1_36 (p1 := 91) (p2 := 96) rfl dX1_feed_91 dX1_feed_92 dX1_feed_97 (fun K Z C L st h a b k => mj_iadd C dX1_feed_96 k) (r_aload_n dX1_feed_90 rfl) (r_iconst dX1_feed_95 rfl))))
  (r_goto (p1 := 103) dX1_feed_103 rfl (r_iinc dX1_feed_100 rfl (by decide)))))
  (r_reti (p1 := 110) dX1_feed_110 (rg_X1_36 (p1 := 107) rfl dX1_feed_107 (r_aload_n dX1_feed_106 rfl)))))
noncomputable def m_X1_feed : List Value → mj_H → mj_Res := mj_mk (some .int) 7 b_X1_feed
theorem sd_X1_feed : mj_Snd yX1_feed (ws_ yX1_feed cX1_feed 7 (some .int)) 6 m_X1_feed := mj_snd (own := RX1) (ini := false) (pE := 0) (bk := 0) (cn := 0) rfl (by decide) (fun h => nomatch h) (fun h => nomatch h) cf_X1_feed
theorem rt_X1_J4 {μ : mj_I} {p0 p1 bk cn : Nat} (hfr : 6 ≤ μ.2.2.2.1) (hrg : μ.2.2.2.2.2.2 (p0 + 7) = true) (d0 : decode μ.2.1 p0 = .ok (.new 42, 3)) (d3 : decode μ.2.1 (p0 + 3) = .ok (.dup, 1)) (d4 : decode μ.2.1 (p0 + 4) = .ok (.invokespecial 44, 3)) (d7 : decode μ.2.1 (p0 + 7) = .ok (.athrow, 1)) (ho : μ.1 = RX1 := by rfl) : mj_Sm μ p0 p1 bk cn (mx_thr 4) := r_thr (Cn := RJ4) (ik := 42) (ic := 44) (names := mj_nms) rfl (by decide) (by decide) (by decide) (by decide) (by rw [ho]; exact q306) q125 (by rw [ho]; exact mj_at_J4) (by rw [ho]; exact mj_ot_J4) hfr hrg d0 d3 d4 d7
abbrev mi_X1_end : mj_I := (RX1, cX1_end, 2, 6, false, [], (fun _ => true))
noncomputable def b_X1_end : mj_X mj_F :=
  (mx_seq (mx_if (mx_or (mx_or (mx_is z_lt (mx_v 1)) (mx_cmp c_gt (mx_v 1) (mx_k (15 : Int32)))) (mx_cmp c_gt (mx_v 1) (mx_get 0 1 (mx_vr 0))))
   (mx_thr 4)
   mx_skip)
  (mx_seq (mx_upd 0 1 o_isub (mx_vr 0) (mx_v 1))
  (mx_ret .int (mx_get 0 1 (mx_vr 0)))))
set_option maxRecDepth 100000 in
set_option maxHeartbeats 4000000 in
theorem cf_X1_end : mj_Sm mi_X1_end 0 0 0 0 b_X1_end :=
  (r_seq (p1 := 26) (r_if (p1 := 18) (p2 := 26) (p3 := 26) (r_or (p1 := 10) (p2 := 18) (p3 := 26) (r_or (p1 := 4) (p2 := 18) (p3 := 10) (r_zlt_t (p1 := 1) dX1_end_1 rfl (r_iload_n dX1_end_0 rfl)) (r_cgt_t (p1 := 5) (p2 := 7) dX1_end_7 rfl (r_iload_n dX1_end_4 rfl) (r_bipush dX1_end_5 rfl))) (r_cgt_f (p1 := 11) (p2 := 15) dX1_end_15 rfl (r_iload_n dX1_end_10 rfl) (rg_X1_36 (p1 := 12) rfl dX1_end_12 (r_aload_n dX1_end_11 rfl))))
   (rt_X1_J4 (by decide) rfl dX1_end_18 dX1_end_21 dX1_end_22 dX1_end_25)
   r_skip)
  (r_seq (p1 := 36) (ru_X1_36 (p1 := 27) (p2 := 32) rfl dX1_end_27 dX1_end_28 dX1_end_33 (fun K Z C L st h a b k => mj_isub C dX1_end_32 k) (r_aload_n dX1_end_26 rfl) (r_iload_n dX1_end_31 rfl))
  (r_reti (p1 := 40) dX1_end_40 (rg_X1_36 (p1 := 37) rfl dX1_end_37 (r_aload_n dX1_end_36 rfl)))))
noncomputable def m_X1_end : List Value → mj_H → mj_Res := mj_mk (some .int) 2 b_X1_end
theorem sd_X1_end : mj_Snd yX1_end (ws_ yX1_end cX1_end 2 (some .int)) 6 m_X1_end := mj_snd (own := RX1) (ini := false) (pE := 0) (bk := 0) (cn := 0) rfl (by decide) (fun h => nomatch h) (fun h => nomatch h) cf_X1_end
abbrev mi_X1_must : mj_I := (RX1, cX1_must, 3, 6, false, [], (fun _ => true))
noncomputable def b_X1_must : mj_X mj_F :=
  (mx_if (mx_not (mx_is z_ne (mx_v 1)))
   (mx_seq (mx_put 0 4 (mx_vr 0) (mx_v 2))
  (mx_thr 4))
   mx_skip)
set_option maxRecDepth 100000 in
set_option maxHeartbeats 4000000 in
theorem cf_X1_must : mj_Sm mi_X1_must 0 17 0 0 b_X1_must :=
  (r_if (p1 := 4) (p2 := 17) (p3 := 17) (r_not (r_zne_t (p1 := 1) dX1_must_1 rfl (r_iload_n dX1_must_0 rfl)))
   (r_seq (p1 := 9) (rp_X1_45 (p1 := 5) (p2 := 6) rfl dX1_must_6 (r_aload_n dX1_must_4 rfl) (r_iload_n dX1_must_5 rfl))
  (rt_X1_J4 (by decide) rfl dX1_must_9 dX1_must_12 dX1_must_13 dX1_must_16))
   r_skip)
noncomputable def m_X1_must : List Value → mj_H → mj_Res := mj_mk none 3 b_X1_must
theorem sd_X1_must : mj_Snd yX1_must (ws_ yX1_must cX1_must 3 none) 6 m_X1_must := mj_snd (own := RX1) (ini := false) (pE := 17) (bk := 0) (cn := 0) rfl (by decide) (fun h => nomatch h) (fun _ => dX1_must_17) cf_X1_must
abbrev mi_X1_look : mj_I := (RX1, cX1_look, 2, 1, false, [], (fun _ => true))
noncomputable def b_X1_look : mj_X mj_F :=
  (mx_ret .int (mx_cond (mx_cmp c_lt (mx_bin o_iadd (mx_get 0 2 (mx_vr 0)) (mx_v 1)) (mx_get 0 1 (mx_vr 0))) (mx_bin o_iand (mx_ab (mx_getr 0 0 (mx_vr 0)) (mx_bin o_iadd (mx_get 0 2 (mx_vr 0)) (mx_v 1))) (mx_k (255 : Int32))) (mx_k (10 : Int32))))
set_option maxRecDepth 100000 in
set_option maxHeartbeats 4000000 in
theorem cf_X1_look : mj_Sm mi_X1_look 0 0 0 0 b_X1_look :=
  (r_reti (p1 := 33) dX1_look_33 (r_cond (p1 := 13) (p2 := 31) (p3 := 33) (r_clt_f (p1 := 6) (p2 := 10) dX1_look_10 rfl (r_iadd (p1 := 4) (p2 := 5) dX1_look_5 (rg_X1_48 (p1 := 1) rfl dX1_look_1 (r_aload_n dX1_look_0 rfl)) (r_iload_n dX1_look_4 rfl)) (rg_X1_36 (p1 := 7) rfl dX1_look_7 (r_aload_n dX1_look_6 rfl))) (r_egoto (p1 := 28) dX1_look_28 rfl (r_iand (p1 := 24) (p2 := 27) dX1_look_27 (r_baload (p1 := 17) (p2 := 23) dX1_look_23 (rg_X1_9 (p1 := 14) rfl dX1_look_14 (r_aload_n dX1_look_13 rfl)) (r_iadd (p1 := 21) (p2 := 22) dX1_look_22 (rg_X1_48 (p1 := 18) rfl dX1_look_18 (r_aload_n dX1_look_17 rfl)) (r_iload_n dX1_look_21 rfl))) (r_sipush dX1_look_24 rfl))) (r_bipush dX1_look_31 rfl)))
noncomputable def m_X1_look : List Value → mj_H → mj_Res := mj_mk (some .int) 2 b_X1_look
theorem sd_X1_look : mj_Snd yX1_look (ws_ yX1_look cX1_look 2 (some .int)) 1 m_X1_look := mj_snd (own := RX1) (ini := false) (pE := 0) (bk := 0) (cn := 0) rfl (by decide) (fun h => nomatch h) (fun h => nomatch h) cf_X1_look
theorem rk_X1_51 {μ : mj_I} {j p0 p1 p2 : Nat} {O : mj_X (Option Nat)} {Es : mj_X (List Value)} (ho : μ.1 = RX1) (hlen : ∀ σ, mj_ln 1 (Es σ)) (hfr : 2 ≤ μ.2.2.2.1) (hj : j ≤ 8) (hrg : μ.2.2.2.2.2.2 p2 = true) (d : decode μ.2.1 p2 = .ok (.invokevirtual 51, 3)) (e1 : mj_E va_rf μ j p0 p1 O) (e2 : mj_Ar μ (j + 1) p1 p2 Es) : mj_Ec μ j p0 (p2 + 3) (mx_cv 0 m_X1_look O Es) := r_callV (y := yX1_look) (ccy := cX1_look) (nLy := 2) (fry := 1) (n := 1) (ci := 0) (rety := (some .int)) sd_X1_look rfl (by decide) (by rw [ho]; exact lw_V q422 q424 qs4 q119 q425) (by decide +kernel) (by decide) hlen hfr hj hrg d e1 e2
abbrev mi_X1_blanks : mj_I := (RX1, cX1_blanks, 1, 2, false, [], (fun _ => true))
noncomputable def b_X1_blanks : mj_X mj_F :=
  (mx_loop (mx_or (mx_cmp c_eq (mx_asi (mx_cv 0 m_X1_look (mx_vr 0) (mx_cons .int (mx_k (0 : Int32)) mx_nil))) (mx_k (32 : Int32))) (mx_cmp c_eq (mx_asi (mx_cv 0 m_X1_look (mx_vr 0) (mx_cons .int (mx_k (0 : Int32)) mx_nil))) (mx_k (9 : Int32))))
  (mx_upd 0 2 o_iadd (mx_vr 0) (mx_k (1 : Int32)))
  mx_skip)
set_option maxRecDepth 100000 in
set_option maxHeartbeats 4000000 in
theorem cf_X1_blanks : mj_Sm mi_X1_blanks 0 33 0 0 b_X1_blanks :=
  (r_loop (p1 := 20) (p2 := 0) (pE := 33) (r_or (p1 := 10) (p2 := 20) (p3 := 33) (r_ceq_t (p1 := 5) (p2 := 7) dX1_blanks_7 rfl (r_asi (rk_X1_51 (p1 := 1) (p2 := 2) rfl (r_lenS r_len0) (by decide) (by decide) rfl dX1_blanks_2 (r_aload_n dX1_blanks_0 rfl) (r_cons (p1 := 2) mj_wi (r_iconst dX1_blanks_1 rfl) r_nil))) (r_bipush dX1_blanks_5 rfl)) (r_ceq_f (p1 := 15) (p2 := 17) dX1_blanks_17 rfl (r_asi (rk_X1_51 (p1 := 11) (p2 := 12) rfl (r_lenS r_len0) (by decide) (by decide) rfl dX1_blanks_12 (r_aload_n dX1_blanks_10 rfl) (r_cons (p1 := 12) mj_wi (r_iconst dX1_blanks_11 rfl) r_nil))) (r_bipush dX1_blanks_15 rfl)))
  (r_goto (p1 := 30) dX1_blanks_30 rfl (ru_X1_48 (p1 := 21) (p2 := 26) rfl dX1_blanks_21 dX1_blanks_22 dX1_blanks_27 (fun K Z C L st h a b k => mj_iadd C dX1_blanks_26 k) (r_aload_n dX1_blanks_20 rfl) (r_iconst dX1_blanks_25 rfl)))
  r_skip)
noncomputable def m_X1_blanks : List Value → mj_H → mj_Res := mj_mk none 1 b_X1_blanks
theorem sd_X1_blanks : mj_Snd yX1_blanks (ws_ yX1_blanks cX1_blanks 1 none) 2 m_X1_blanks := mj_snd (own := RX1) (ini := false) (pE := 33) (bk := 0) (cn := 0) rfl (by decide) (fun h => nomatch h) (fun _ => dX1_blanks_33) cf_X1_blanks
abbrev mi_X1_isEnd : mj_I := (RX1, cX1_isEnd, 1, 2, false, [], (fun _ => true))
noncomputable def b_X1_isEnd : mj_X mj_F :=
  (mx_ret .int (mx_cond (mx_or (mx_cmp c_eq (mx_asi (mx_cv 0 m_X1_look (mx_vr 0) (mx_cons .int (mx_k (0 : Int32)) mx_nil))) (mx_k (10 : Int32))) (mx_cmp c_eq (mx_asi (mx_cv 0 m_X1_look (mx_vr 0) (mx_cons .int (mx_k (0 : Int32)) mx_nil))) (mx_k (35 : Int32)))) (mx_k (1 : Int32)) (mx_k (0 : Int32))))
set_option maxRecDepth 100000 in
set_option maxHeartbeats 4000000 in
theorem cf_X1_isEnd : mj_Sm mi_X1_isEnd 0 0 0 0 b_X1_isEnd :=
  (r_reti (p1 := 25) dX1_isEnd_25 (r_cond (p1 := 20) (p2 := 24) (p3 := 25) (r_or (p1 := 10) (p2 := 20) (p3 := 24) (r_ceq_t (p1 := 5) (p2 := 7) dX1_isEnd_7 rfl (r_asi (rk_X1_51 (p1 := 1) (p2 := 2) rfl (r_lenS r_len0) (by decide) (by decide) rfl dX1_isEnd_2 (r_aload_n dX1_isEnd_0 rfl) (r_cons (p1 := 2) mj_wi (r_iconst dX1_isEnd_1 rfl) r_nil))) (r_bipush dX1_isEnd_5 rfl)) (r_ceq_f (p1 := 15) (p2 := 17) dX1_isEnd_17 rfl (r_asi (rk_X1_51 (p1 := 11) (p2 := 12) rfl (r_lenS r_len0) (by decide) (by decide) rfl dX1_isEnd_12 (r_aload_n dX1_isEnd_10 rfl) (r_cons (p1 := 12) mj_wi (r_iconst dX1_isEnd_11 rfl) r_nil))) (r_bipush dX1_isEnd_15 rfl))) (r_egoto (p1 := 21) dX1_isEnd_21 rfl (r_iconst dX1_isEnd_20 rfl)) (r_iconst dX1_isEnd_24 rfl)))
noncomputable def m_X1_isEnd : List Value → mj_H → mj_Res := mj_mk (some .boolean) 1 b_X1_isEnd
theorem sd_X1_isEnd : mj_Snd yX1_isEnd (ws_ yX1_isEnd cX1_isEnd 1 (some .boolean)) 2 m_X1_isEnd := mj_snd (own := RX1) (ini := false) (pE := 0) (bk := 0) (cn := 0) rfl (by decide) (fun h => nomatch h) (fun h => nomatch h) cf_X1_isEnd
abbrev mi_X1_isLetter : mj_I := (RX1, cX1_isLetter, 1, 1, false, [], (fun _ => true))
noncomputable def b_X1_isLetter : mj_X mj_F :=
  (mx_ret .int (mx_cond (mx_or (mx_or (mx_or (mx_and (mx_cmp c_ge (mx_v 0) (mx_k (97 : Int32))) (mx_cmp c_le (mx_v 0) (mx_k (122 : Int32)))) (mx_and (mx_cmp c_ge (mx_v 0) (mx_k (65 : Int32))) (mx_cmp c_le (mx_v 0) (mx_k (90 : Int32))))) (mx_cmp c_eq (mx_v 0) (mx_k (95 : Int32)))) (mx_cmp c_eq (mx_v 0) (mx_k (46 : Int32)))) (mx_k (1 : Int32)) (mx_k (0 : Int32))))
set_option maxRecDepth 100000 in
set_option maxHeartbeats 4000000 in
theorem cf_X1_isLetter : mj_Sm mi_X1_isLetter 0 0 0 0 b_X1_isLetter :=
  (r_reti (p1 := 41) dX1_isLetter_41 (r_cond (p1 := 36) (p2 := 40) (p3 := 41) (r_or (p1 := 30) (p2 := 36) (p3 := 40) (r_or (p1 := 24) (p2 := 36) (p3 := 30) (r_or (p1 := 12) (p2 := 36) (p3 := 24) (r_and (p1 := 6) (p2 := 36) (p3 := 12) (r_cge_f (p1 := 1) (p2 := 3) dX1_isLetter_3 rfl (r_iload_n dX1_isLetter_0 rfl) (r_bipush dX1_isLetter_1 rfl)) (r_cle_t (p1 := 7) (p2 := 9) dX1_isLetter_9 rfl (r_iload_n dX1_isLetter_6 rfl) (r_bipush dX1_isLetter_7 rfl))) (r_and (p1 := 18) (p2 := 36) (p3 := 24) (r_cge_f (p1 := 13) (p2 := 15) dX1_isLetter_15 rfl (r_iload_n dX1_isLetter_12 rfl) (r_bipush dX1_isLetter_13 rfl)) (r_cle_t (p1 := 19) (p2 := 21) dX1_isLetter_21 rfl (r_iload_n dX1_isLetter_18 rfl) (r_bipush dX1_isLetter_19 rfl)))) (r_ceq_t (p1 := 25) (p2 := 27) dX1_isLetter_27 rfl (r_iload_n dX1_isLetter_24 rfl) (r_bipush dX1_isLetter_25 rfl))) (r_ceq_f (p1 := 31) (p2 := 33) dX1_isLetter_33 rfl (r_iload_n dX1_isLetter_30 rfl) (r_bipush dX1_isLetter_31 rfl))) (r_egoto (p1 := 37) dX1_isLetter_37 rfl (r_iconst dX1_isLetter_36 rfl)) (r_iconst dX1_isLetter_40 rfl)))
noncomputable def m_X1_isLetter : List Value → mj_H → mj_Res := mj_mk (some .boolean) 1 b_X1_isLetter
theorem sd_X1_isLetter : mj_Snd yX1_isLetter (ws_ yX1_isLetter cX1_isLetter 1 (some .boolean)) 1 m_X1_isLetter := mj_snd (own := RX1) (ini := false) (pE := 0) (bk := 0) (cn := 0) rfl (by decide) (fun h => nomatch h) (fun h => nomatch h) cf_X1_isLetter
abbrev mi_X1_isDigit : mj_I := (RX1, cX1_isDigit, 1, 1, false, [], (fun _ => true))
noncomputable def b_X1_isDigit : mj_X mj_F :=
  (mx_ret .int (mx_cond (mx_and (mx_cmp c_ge (mx_v 0) (mx_k (48 : Int32))) (mx_cmp c_le (mx_v 0) (mx_k (57 : Int32)))) (mx_k (1 : Int32)) (mx_k (0 : Int32))))
set_option maxRecDepth 100000 in
set_option maxHeartbeats 4000000 in
theorem cf_X1_isDigit : mj_Sm mi_X1_isDigit 0 0 0 0 b_X1_isDigit :=
  (r_reti (p1 := 17) dX1_isDigit_17 (r_cond (p1 := 12) (p2 := 16) (p3 := 17) (r_and (p1 := 6) (p2 := 12) (p3 := 16) (r_cge_f (p1 := 1) (p2 := 3) dX1_isDigit_3 rfl (r_iload_n dX1_isDigit_0 rfl) (r_bipush dX1_isDigit_1 rfl)) (r_cle_f (p1 := 7) (p2 := 9) dX1_isDigit_9 rfl (r_iload_n dX1_isDigit_6 rfl) (r_bipush dX1_isDigit_7 rfl))) (r_egoto (p1 := 13) dX1_isDigit_13 rfl (r_iconst dX1_isDigit_12 rfl)) (r_iconst dX1_isDigit_16 rfl)))
noncomputable def m_X1_isDigit : List Value → mj_H → mj_Res := mj_mk (some .boolean) 1 b_X1_isDigit
theorem sd_X1_isDigit : mj_Snd yX1_isDigit (ws_ yX1_isDigit cX1_isDigit 1 (some .boolean)) 1 m_X1_isDigit := mj_snd (own := RX1) (ini := false) (pE := 0) (bk := 0) (cn := 0) rfl (by decide) (fun h => nomatch h) (fun h => nomatch h) cf_X1_isDigit
theorem rk_X1_55 {μ : mj_I} {j p0 p1 : Nat} {Es : mj_X (List Value)} (ho : μ.1 = RX1) (hlen : ∀ σ, mj_ln 1 (Es σ)) (hfr : 2 ≤ μ.2.2.2.1) (hj : j ≤ 8) (hrg : μ.2.2.2.2.2.2 p1 = true) (d : decode μ.2.1 p1 = .ok (.invokestatic 55, 3)) (e2 : mj_Ar μ j p0 p1 Es) : mj_Ec μ j p0 (p1 + 3) (mx_cs m_X1_isDigit Es) := r_callS (y := yX1_isDigit) (ccy := cX1_isDigit) (nLy := 1) (fry := 1) (n := 1) (rety := (some .boolean)) sd_X1_isDigit (by rw [ho]; exact lw_S q433 q434 q119 q435) (by decide +kernel) (by decide) hlen hfr hj hrg d e2
abbrev mi_X1_digit : mj_I := (RX1, cX1_digit, 1, 2, false, [], (fun _ => true))
noncomputable def b_X1_digit : mj_X mj_F :=
  (mx_ret .int (mx_cond (mx_is z_ne (mx_asi (mx_cs m_X1_isDigit (mx_cons .int (mx_v 0) mx_nil)))) (mx_bin o_isub (mx_v 0) (mx_k (48 : Int32))) (mx_cond (mx_and (mx_cmp c_ge (mx_v 0) (mx_k (97 : Int32))) (mx_cmp c_le (mx_v 0) (mx_k (102 : Int32)))) (mx_bin o_iadd (mx_bin o_isub (mx_v 0) (mx_k (97 : Int32))) (mx_k (10 : Int32))) (mx_cond (mx_and (mx_cmp c_ge (mx_v 0) (mx_k (65 : Int32))) (mx_cmp c_le (mx_v 0) (mx_k (70 : Int32)))) (mx_bin o_iadd (mx_bin o_isub (mx_v 0) (mx_k (65 : Int32))) (mx_k (10 : Int32))) (mx_k (99 : Int32))))))
set_option maxRecDepth 100000 in
set_option maxHeartbeats 4000000 in
theorem cf_X1_digit : mj_Sm mi_X1_digit 0 0 0 0 b_X1_digit :=
  (r_reti (p1 := 60) dX1_digit_60 (r_cond (p1 := 7) (p2 := 14) (p3 := 60) (r_zne_f (p1 := 4) dX1_digit_4 rfl (r_asi (rk_X1_55 (p1 := 1) rfl (r_lenS r_len0) (by decide) (by decide) rfl dX1_digit_1 (r_cons (p1 := 1) mj_wi (r_iload_n dX1_digit_0 rfl) r_nil)))) (r_egoto (p1 := 11) dX1_digit_11 rfl (r_isub (p1 := 8) (p2 := 10) dX1_digit_10 (r_iload_n dX1_digit_7 rfl) (r_bipush dX1_digit_8 rfl))) (r_cond (p1 := 26) (p2 := 36) (p3 := 60) (r_and (p1 := 20) (p2 := 26) (p3 := 36) (r_cge_f (p1 := 15) (p2 := 17) dX1_digit_17 rfl (r_iload_n dX1_digit_14 rfl) (r_bipush dX1_digit_15 rfl)) (r_cle_f (p1 := 21) (p2 := 23) dX1_digit_23 rfl (r_iload_n dX1_digit_20 rfl) (r_bipush dX1_digit_21 rfl))) (r_egoto (p1 := 33) dX1_digit_33 rfl (r_iadd (p1 := 30) (p2 := 32) dX1_digit_32 (r_isub (p1 := 27) (p2 := 29) dX1_digit_29 (r_iload_n dX1_digit_26 rfl) (r_bipush dX1_digit_27 rfl)) (r_bipush dX1_digit_30 rfl))) (r_cond (p1 := 48) (p2 := 58) (p3 := 60) (r_and (p1 := 42) (p2 := 48) (p3 := 58) (r_cge_f (p1 := 37) (p2 := 39) dX1_digit_39 rfl (r_iload_n dX1_digit_36 rfl) (r_bipush dX1_digit_37 rfl)) (r_cle_f (p1 := 43) (p2 := 45) dX1_digit_45 rfl (r_iload_n dX1_digit_42 rfl) (r_bipush dX1_digit_43 rfl))) (r_egoto (p1 := 55) dX1_digit_55 rfl (r_iadd (p1 := 52) (p2 := 54) dX1_digit_54 (r_isub (p1 := 49) (p2 := 51) dX1_digit_51 (r_iload_n dX1_digit_48 rfl) (r_bipush dX1_digit_49 rfl)) (r_bipush dX1_digit_52 rfl))) (r_bipush dX1_digit_58 rfl)))))
noncomputable def m_X1_digit : List Value → mj_H → mj_Res := mj_mk (some .int) 1 b_X1_digit
theorem sd_X1_digit : mj_Snd yX1_digit (ws_ yX1_digit cX1_digit 1 (some .int)) 2 m_X1_digit := mj_snd (own := RX1) (ini := false) (pE := 0) (bk := 0) (cn := 0) rfl (by decide) (fun h => nomatch h) (fun h => nomatch h) cf_X1_digit
theorem rk_X1_59 {μ : mj_I} {j p0 p1 p2 : Nat} {O : mj_X (Option Nat)} {Es : mj_X (List Value)} (ho : μ.1 = RX1) (hlen : ∀ σ, mj_ln 0 (Es σ)) (hfr : 3 ≤ μ.2.2.2.1) (hj : j ≤ 8) (hrg : μ.2.2.2.2.2.2 p2 = true) (d : decode μ.2.1 p2 = .ok (.invokevirtual 59, 3)) (e1 : mj_E va_rf μ j p0 p1 O) (e2 : mj_Ar μ (j + 1) p1 p2 Es) : mj_Ec μ j p0 (p2 + 3) (mx_cv 0 m_X1_blanks O Es) := r_callV (y := yX1_blanks) (ccy := cX1_blanks) (nLy := 1) (fry := 2) (n := 0) (ci := 0) (rety := none) sd_X1_blanks rfl (by decide) (by rw [ho]; exact lw_V q418 q420 qs3 q119 q421) (by decide +kernel) (by decide) hlen hfr hj hrg d e1 e2
abbrev mi_X1_sign : mj_I := (RX1, cX1_sign, 2, 3, false, [], (fun _ => true))
noncomputable def b_X1_sign : mj_X mj_F :=
  (mx_seq (mx_if (mx_cmp c_ne (mx_asi (mx_cv 0 m_X1_look (mx_vr 0) (mx_cons .int (mx_k (0 : Int32)) mx_nil))) (mx_v 1))
   (mx_ret .int (mx_k (0 : Int32)))
   mx_skip)
  (mx_seq (mx_upd 0 2 o_iadd (mx_vr 0) (mx_k (1 : Int32)))
  (mx_seq (mx_void (mx_cv 0 m_X1_blanks (mx_vr 0) mx_nil))
  (mx_ret .int (mx_k (1 : Int32))))))
set_option maxRecDepth 100000 in
set_option maxHeartbeats 4000000 in
theorem cf_X1_sign : mj_Sm mi_X1_sign 0 0 0 0 b_X1_sign :=
  (r_seq (p1 := 11) (r_if (p1 := 9) (p2 := 11) (p3 := 11) (r_cne_f (p1 := 5) (p2 := 6) dX1_sign_6 rfl (r_asi (rk_X1_51 (p1 := 1) (p2 := 2) rfl (r_lenS r_len0) (by decide) (by decide) rfl dX1_sign_2 (r_aload_n dX1_sign_0 rfl) (r_cons (p1 := 2) mj_wi (r_iconst dX1_sign_1 rfl) r_nil))) (r_iload_n dX1_sign_5 rfl))
   (r_reti (p1 := 10) dX1_sign_10 (r_iconst dX1_sign_9 rfl))
   r_skip)
  (r_seq (p1 := 21) (ru_X1_48 (p1 := 12) (p2 := 17) rfl dX1_sign_12 dX1_sign_13 dX1_sign_18 (fun K Z C L st h a b k => mj_iadd C dX1_sign_17 k) (r_aload_n dX1_sign_11 rfl) (r_iconst dX1_sign_16 rfl))
  (r_seq (p1 := 25) (r_void (rk_X1_59 (p1 := 22) (p2 := 22) rfl r_len0 (by decide) (by decide) rfl dX1_sign_22 (r_aload_n dX1_sign_21 rfl) r_nil))
  (r_reti (p1 := 26) dX1_sign_26 (r_iconst dX1_sign_25 rfl)))))
noncomputable def m_X1_sign : List Value → mj_H → mj_Res := mj_mk (some .boolean) 2 b_X1_sign
theorem sd_X1_sign : mj_Snd yX1_sign (ws_ yX1_sign cX1_sign 2 (some .boolean)) 3 m_X1_sign := mj_snd (own := RX1) (ini := false) (pE := 0) (bk := 0) (cn := 0) rfl (by decide) (fun h => nomatch h) (fun h => nomatch h) cf_X1_sign
theorem rk_X1_73 {μ : mj_I} {j p0 p1 : Nat} {Es : mj_X (List Value)} (ho : μ.1 = RX1) (hlen : ∀ σ, mj_ln 1 (Es σ)) (hfr : 2 ≤ μ.2.2.2.1) (hj : j ≤ 8) (hrg : μ.2.2.2.2.2.2 p1 = true) (d : decode μ.2.1 p1 = .ok (.invokestatic 73, 3)) (e2 : mj_Ar μ j p0 p1 Es) : mj_Ec μ j p0 (p1 + 3) (mx_cs m_X1_isLetter Es) := r_callS (y := yX1_isLetter) (ccy := cX1_isLetter) (nLy := 1) (fry := 1) (n := 1) (rety := (some .boolean)) sd_X1_isLetter (by rw [ho]; exact lw_S q426 q427 q119 q428) (by decide +kernel) (by decide) hlen hfr hj hrg d e2
abbrev mi_X1_isInName : mj_I := (RX1, cX1_isInName, 2, 2, false, [], (fun _ => true))
noncomputable def b_X1_isInName : mj_X mj_F :=
  (mx_ret .int (mx_cond (mx_or (mx_is z_ne (mx_asi (mx_cs m_X1_isLetter (mx_cons .int (mx_asi (mx_cv 0 m_X1_look (mx_vr 0) (mx_cons .int (mx_v 1) mx_nil))) mx_nil)))) (mx_is z_ne (mx_asi (mx_cs m_X1_isDigit (mx_cons .int (mx_asi (mx_cv 0 m_X1_look (mx_vr 0) (mx_cons .int (mx_v 1) mx_nil))) mx_nil))))) (mx_k (1 : Int32)) (mx_k (0 : Int32))))
set_option maxRecDepth 100000 in
set_option maxHeartbeats 4000000 in
theorem cf_X1_isInName : mj_Sm mi_X1_isInName 0 0 0 0 b_X1_isInName :=
  (r_reti (p1 := 27) dX1_isInName_27 (r_cond (p1 := 22) (p2 := 26) (p3 := 27) (r_or (p1 := 11) (p2 := 22) (p3 := 26) (r_zne_t (p1 := 8) dX1_isInName_8 rfl (r_asi (rk_X1_73 (p1 := 5) rfl (r_lenS r_len0) (by decide) (by decide) rfl dX1_isInName_5 (r_cons (p1 := 5) mj_wi (r_asi (rk_X1_51 (p1 := 1) (p2 := 2) rfl (r_lenS r_len0) (by decide) (by decide) rfl dX1_isInName_2 (r_aload_n dX1_isInName_0 rfl) (r_cons (p1 := 2) mj_wi (r_iload_n dX1_isInName_1 rfl) r_nil))) r_nil)))) (r_zne_f (p1 := 19) dX1_isInName_19 rfl (r_asi (rk_X1_55 (p1 := 16) rfl (r_lenS r_len0) (by decide) (by decide) rfl dX1_isInName_16 (r_cons (p1 := 16) mj_wi (r_asi (rk_X1_51 (p1 := 12) (p2 := 13) rfl (r_lenS r_len0) (by decide) (by decide) rfl dX1_isInName_13 (r_aload_n dX1_isInName_11 rfl) (r_cons (p1 := 13) mj_wi (r_iload_n dX1_isInName_12 rfl) r_nil))) r_nil))))) (r_egoto (p1 := 23) dX1_isInName_23 rfl (r_iconst dX1_isInName_22 rfl)) (r_iconst dX1_isInName_26 rfl)))
noncomputable def m_X1_isInName : List Value → mj_H → mj_Res := mj_mk (some .boolean) 2 b_X1_isInName
theorem sd_X1_isInName : mj_Snd yX1_isInName (ws_ yX1_isInName cX1_isInName 2 (some .boolean)) 2 m_X1_isInName := mj_snd (own := RX1) (ini := false) (pE := 0) (bk := 0) (cn := 0) rfl (by decide) (fun h => nomatch h) (fun h => nomatch h) cf_X1_isInName
theorem rk_X1_80 {μ : mj_I} {j p0 p1 p2 : Nat} {O : mj_X (Option Nat)} {Es : mj_X (List Value)} (ho : μ.1 = RX1) (hlen : ∀ σ, mj_ln 1 (Es σ)) (hfr : 3 ≤ μ.2.2.2.1) (hj : j ≤ 8) (hrg : μ.2.2.2.2.2.2 p2 = true) (d : decode μ.2.1 p2 = .ok (.invokevirtual 80, 3)) (e1 : mj_E va_rf μ j p0 p1 O) (e2 : mj_Ar μ (j + 1) p1 p2 Es) : mj_Ec μ j p0 (p2 + 3) (mx_cv 0 m_X1_isInName O Es) := r_callV (y := yX1_isInName) (ccy := cX1_isInName) (nLy := 2) (fry := 2) (n := 1) (ci := 0) (rety := (some .boolean)) sd_X1_isInName rfl (by decide) (by rw [ho]; exact lw_V q517 q519 qs14 q119 q520) (by decide +kernel) (by decide) hlen hfr hj hrg d e1 e2
theorem rk_X1_96 {μ : mj_I} {j p0 p1 : Nat} {Es : mj_X (List Value)} (ho : μ.1 = RX1) (hlen : ∀ σ, mj_ln 1 (Es σ)) (hfr : 3 ≤ μ.2.2.2.1) (hj : j ≤ 8) (hrg : μ.2.2.2.2.2.2 p1 = true) (d : decode μ.2.1 p1 = .ok (.invokestatic 96, 3)) (e2 : mj_Ar μ j p0 p1 Es) : mj_Ec μ j p0 (p1 + 3) (mx_cs m_X1_digit Es) := r_callS (y := yX1_digit) (ccy := cX1_digit) (nLy := 1) (fry := 2) (n := 1) (rety := (some .int)) sd_X1_digit (by rw [ho]; exact lw_S q525 q526 q119 q527) (by decide +kernel) (by decide) hlen hfr hj hrg d e2
abbrev mi_X1_numeral : mj_I := (RX1, cX1_numeral, 7, 3, false, [], (fun _ => true))
noncomputable def b_X1_numeral : mj_X mj_F :=
  (mx_seq (mx_set 1 (mx_cond (mx_and (mx_cmp c_eq (mx_asi (mx_cv 0 m_X1_look (mx_vr 0) (mx_cons .int (mx_k (0 : Int32)) mx_nil))) (mx_k (48 : Int32))) (mx_cmp c_eq (mx_asi (mx_cv 0 m_X1_look (mx_vr 0) (mx_cons .int (mx_k (1 : Int32)) mx_nil))) (mx_k (120 : Int32)))) (mx_k (1 : Int32)) (mx_k (0 : Int32))))
  (mx_seq (mx_set 2 (mx_cond (mx_is z_ne (mx_v 1)) (mx_k (2 : Int32)) (mx_k (0 : Int32))))
  (mx_seq (mx_set 3 (mx_asi (mx_cv 0 m_X1_isInName (mx_vr 0) (mx_cons .int (mx_v 2) mx_nil))))
  (mx_seq (mx_setl 4 (mx_k (0 : Int64)))
  (mx_seq (mx_loop (mx_is z_ne (mx_asi (mx_cv 0 m_X1_isInName (mx_vr 0) (mx_cons .int (mx_v 2) mx_nil))))
  (mx_seq (mx_set 6 (mx_asi (mx_cs m_X1_digit (mx_cons .int (mx_asi (mx_cv 0 m_X1_look (mx_vr 0) (mx_cons .int (mx_v 2) mx_nil))) mx_nil))))
  (mx_seq (mx_set 3 (mx_cond (mx_and (mx_is z_ne (mx_v 3)) (mx_cmp c_lt (mx_v 6) (mx_cond (mx_is z_ne (mx_v 1)) (mx_k (16 : Int32)) (mx_k (10 : Int32))))) (mx_k (1 : Int32)) (mx_k (0 : Int32))))
  (mx_seq (mx_setl 4 (mx_cond (mx_is z_ne (mx_v 3)) (mx_bin o_ladd (mx_bin o_lmul (mx_cond (mx_is z_ne (mx_v 1)) (mx_k (16 : Int64)) (mx_k (10 : Int64))) (mx_vl 4)) (mx_un o_i2l (mx_v 6))) (mx_k (0 : Int64))))
  (mx_seq (mx_set 3 (mx_cond (mx_and (mx_is z_ne (mx_v 3)) (mx_cmp l_eq (mx_bin o_lshr (mx_vl 4) (mx_k (32 : Int32))) (mx_k (0 : Int64)))) (mx_k (1 : Int32)) (mx_k (0 : Int32))))
  (mx_inc 2 (1 : Int32))))))
  mx_skip)
  (mx_seq (mx_put 0 22 (mx_vr 0) (mx_v 2))
  (mx_ret .long (mx_cond (mx_is z_ne (mx_v 3)) (mx_vl 4) (mx_k (-1 : Int64))))))))))
set_option maxRecDepth 100000 in
set_option maxHeartbeats 4000000 in
theorem cf_X1_numeral : mj_Sm mi_X1_numeral 0 0 0 0 b_X1_numeral :=
  (r_seq (p1 := 26) (r_istore_n (p1 := 25) dX1_numeral_25 rfl (by decide) (r_cond (p1 := 20) (p2 := 24) (p3 := 25) (r_and (p1 := 10) (p2 := 20) (p3 := 24) (r_ceq_f (p1 := 5) (p2 := 7) dX1_numeral_7 rfl (r_asi (rk_X1_51 (p1 := 1) (p2 := 2) rfl (r_lenS r_len0) (by decide) (by decide) rfl dX1_numeral_2 (r_aload_n dX1_numeral_0 rfl) (r_cons (p1 := 2) mj_wi (r_iconst dX1_numeral_1 rfl) r_nil))) (r_bipush dX1_numeral_5 rfl)) (r_ceq_f (p1 := 15) (p2 := 17) dX1_numeral_17 rfl (r_asi (rk_X1_51 (p1 := 11) (p2 := 12) rfl (r_lenS r_len0) (by decide) (by decide) rfl dX1_numeral_12 (r_aload_n dX1_numeral_10 rfl) (r_cons (p1 := 12) mj_wi (r_iconst dX1_numeral_11 rfl) r_nil))) (r_bipush dX1_numeral_15 rfl))) (r_egoto (p1 := 21) dX1_numeral_21 rfl (r_iconst dX1_numeral_20 rfl)) (r_iconst dX1_numeral_24 rfl)))
  (r_seq (p1 := 36) (r_istore_n (p1 := 35) dX1_numeral_35 rfl (by decide) (r_cond (p1 := 30) (p2 := 34) (p3 := 35) (r_zne_f (p1 := 27) dX1_numeral_27 rfl (r_iload_n dX1_numeral_26 rfl)) (r_egoto (p1 := 31) dX1_numeral_31 rfl (r_iconst dX1_numeral_30 rfl)) (r_iconst dX1_numeral_34 rfl)))
  (r_seq (p1 := 42) (r_istore_n (p1 := 41) dX1_numeral_41 rfl (by decide) (r_asi (rk_X1_80 (p1 := 37) (p2 := 38) rfl (r_lenS r_len0) (by decide) (by decide) rfl dX1_numeral_38 (r_aload_n dX1_numeral_36 rfl) (r_cons (p1 := 38) mj_wi (r_iload_n dX1_numeral_37 rfl) r_nil))))
  (r_seq (p1 := 45) (r_lstore (p1 := 43) dX1_numeral_43 (by decide) (r_lconst dX1_numeral_42 rfl))
  (r_seq (p1 := 145) (r_loop (p1 := 53) (p2 := 45) (pE := 145) (r_zne_f (p1 := 50) dX1_numeral_50 rfl (r_asi (rk_X1_80 (p1 := 46) (p2 := 47) rfl (r_lenS r_len0) (by decide) (by decide) rfl dX1_numeral_47 (r_aload_n dX1_numeral_45 rfl) (r_cons (p1 := 47) mj_wi (r_iload_n dX1_numeral_46 rfl) r_nil))))
  (r_goto (p1 := 142) dX1_numeral_142 rfl (r_seq (p1 := 63) (r_istore (p1 := 61) dX1_numeral_61 (by decide) (r_asi (rk_X1_96 (p1 := 58) rfl (r_lenS r_len0) (by decide) (by decide) rfl dX1_numeral_58 (r_cons (p1 := 58) mj_wi (r_asi (rk_X1_51 (p1 := 54) (p2 := 55) rfl (r_lenS r_len0) (by decide) (by decide) rfl dX1_numeral_55 (r_aload_n dX1_numeral_53 rfl) (r_cons (p1 := 55) mj_wi (r_iload_n dX1_numeral_54 rfl) r_nil))) r_nil))))
  (r_seq (p1 := 89) (r_istore_n (p1 := 88) dX1_numeral_88 rfl (by decide) (r_cond (p1 := 83) (p2 := 87) (p3 := 88) (r_and (p1 := 67) (p2 := 83) (p3 := 87) (r_zne_f (p1 := 64) dX1_numeral_64 rfl (r_iload_n dX1_numeral_63 rfl)) (r_clt_f (p1 := 69) (p2 := 80) dX1_numeral_80 rfl (r_iload dX1_numeral_67) (r_cond (p1 := 73) (p2 := 78) (p3 := 80) (r_zne_f (p1 := 70) dX1_numeral_70 rfl (r_iload_n dX1_numeral_69 rfl)) (r_egoto (p1 := 75) dX1_numeral_75 rfl (r_bipush dX1_numeral_73 rfl)) (r_bipush dX1_numeral_78 rfl)))) (r_egoto (p1 := 84) dX1_numeral_84 rfl (r_iconst dX1_numeral_83 rfl)) (r_iconst dX1_numeral_87 rfl)))
  (r_seq (p1 := 119) (r_lstore (p1 := 117) dX1_numeral_117 (by decide) (r_cond (p1 := 93) (p2 := 116) (p3 := 117) (r_zne_f (p1 := 90) dX1_numeral_90 rfl (r_iload_n dX1_numeral_89 rfl)) (r_egoto (p1 := 113) dX1_numeral_113 rfl (r_ladd (p1 := 109) (p2 := 112) dX1_numeral_112 (r_lmul (p1 := 106) (p2 := 108) dX1_numeral_108 (r_cond (p1 := 97) (p2 := 103) (p3 := 106) (r_zne_f (p1 := 94) dX1_numeral_94 rfl (r_iload_n dX1_numeral_93 rfl)) (r_egoto (p1 := 100) dX1_numeral_100 rfl (r_ldc2 dX1_numeral_97 q528)) (r_ldc2 dX1_numeral_103 q529)) (r_lload dX1_numeral_106)) (r_i2l (p2 := 111) dX1_numeral_111 (r_iload dX1_numeral_109)))) (r_lconst dX1_numeral_116 rfl)))
  (r_seq (p1 := 139) (r_istore_n (p1 := 138) dX1_numeral_138 rfl (by decide) (r_cond (p1 := 133) (p2 := 137) (p3 := 138) (r_and (p1 := 123) (p2 := 133) (p3 := 137) (r_zne_f (p1 := 120) dX1_numeral_120 rfl (r_iload_n dX1_numeral_119 rfl)) (r_leq_f (p1 := 128) (p2 := 129) dX1_numeral_129 dX1_numeral_130 rfl (r_lshr (p1 := 125) (p2 := 127) dX1_numeral_127 (r_lload dX1_numeral_123) (r_bipush dX1_numeral_125 rfl)) (r_lconst dX1_numeral_128 rfl))) (r_egoto (p1 := 134) dX1_numeral_134 rfl (r_iconst dX1_numeral_133 rfl)) (r_iconst dX1_numeral_137 rfl)))
  (r_iinc dX1_numeral_139 rfl (by decide)))))))
  r_skip)
  (r_seq (p1 := 150) (rp_X1_103 (p1 := 146) (p2 := 147) rfl dX1_numeral_147 (r_aload_n dX1_numeral_145 rfl) (r_iload_n dX1_numeral_146 rfl))
  (r_retl (p1 := 162) dX1_numeral_162 (r_cond (p1 := 154) (p2 := 159) (p3 := 162) (r_zne_f (p1 := 151) dX1_numeral_151 rfl (r_iload_n dX1_numeral_150 rfl)) (r_egoto (p1 := 156) dX1_numeral_156 rfl (r_lload dX1_numeral_154)) (r_ldc2 dX1_numeral_159 q530)))))))))
noncomputable def m_X1_numeral : List Value → mj_H → mj_Res := mj_mk (some .long) 7 b_X1_numeral
theorem sd_X1_numeral : mj_Snd yX1_numeral (ws_ yX1_numeral cX1_numeral 7 (some .long)) 3 m_X1_numeral := mj_snd (own := RX1) (ini := false) (pE := 0) (bk := 0) (cn := 0) rfl (by decide) (fun h => nomatch h) (fun h => nomatch h) cf_X1_numeral
abbrev mi_X1_escaped : mj_I := (RX1, cX1_escaped, 1, 1, false, [], (fun _ => true))
noncomputable def b_X1_escaped : mj_X mj_F :=
  (mx_ret .int (mx_cond (mx_cmp c_eq (mx_v 0) (mx_k (110 : Int32))) (mx_k (10 : Int32)) (mx_cond (mx_cmp c_eq (mx_v 0) (mx_k (116 : Int32))) (mx_k (9 : Int32)) (mx_cond (mx_cmp c_eq (mx_v 0) (mx_k (48 : Int32))) (mx_k (0 : Int32)) (mx_cond (mx_or (mx_or (mx_cmp c_eq (mx_v 0) (mx_k (92 : Int32))) (mx_cmp c_eq (mx_v 0) (mx_k (39 : Int32)))) (mx_cmp c_eq (mx_v 0) (mx_k (34 : Int32)))) (mx_v 0) (mx_k (-1 : Int32)))))))
set_option maxRecDepth 100000 in
set_option maxHeartbeats 4000000 in
theorem cf_X1_escaped : mj_Sm mi_X1_escaped 0 0 0 0 b_X1_escaped :=
  (r_reti (p1 := 55) dX1_escaped_55 (r_cond (p1 := 6) (p2 := 11) (p3 := 55) (r_ceq_f (p1 := 1) (p2 := 3) dX1_escaped_3 rfl (r_iload_n dX1_escaped_0 rfl) (r_bipush dX1_escaped_1 rfl)) (r_egoto (p1 := 8) dX1_escaped_8 rfl (r_bipush dX1_escaped_6 rfl)) (r_cond (p1 := 17) (p2 := 22) (p3 := 55) (r_ceq_f (p1 := 12) (p2 := 14) dX1_escaped_14 rfl (r_iload_n dX1_escaped_11 rfl) (r_bipush dX1_escaped_12 rfl)) (r_egoto (p1 := 19) dX1_escaped_19 rfl (r_bipush dX1_escaped_17 rfl)) (r_cond (p1 := 28) (p2 := 32) (p3 := 55) (r_ceq_f (p1 := 23) (p2 := 25) dX1_escaped_25 rfl (r_iload_n dX1_escaped_22 rfl) (r_bipush dX1_escaped_23 rfl)) (r_egoto (p1 := 29) dX1_escaped_29 rfl (r_iconst dX1_escaped_28 rfl)) (r_cond (p1 := 50) (p2 := 54) (p3 := 55) (r_or (p1 := 44) (p2 := 50) (p3 := 54) (r_or (p1 := 38) (p2 := 50) (p3 := 44) (r_ceq_t (p1 := 33) (p2 := 35) dX1_escaped_35 rfl (r_iload_n dX1_escaped_32 rfl) (r_bipush dX1_escaped_33 rfl)) (r_ceq_t (p1 := 39) (p2 := 41) dX1_escaped_41 rfl (r_iload_n dX1_escaped_38 rfl) (r_bipush dX1_escaped_39 rfl))) (r_ceq_f (p1 := 45) (p2 := 47) dX1_escaped_47 rfl (r_iload_n dX1_escaped_44 rfl) (r_bipush dX1_escaped_45 rfl))) (r_egoto (p1 := 51) dX1_escaped_51 rfl (r_iload_n dX1_escaped_50 rfl)) (r_iconst dX1_escaped_54 rfl))))))
noncomputable def m_X1_escaped : List Value → mj_H → mj_Res := mj_mk (some .int) 1 b_X1_escaped
theorem sd_X1_escaped : mj_Snd yX1_escaped (ws_ yX1_escaped cX1_escaped 1 (some .int)) 1 m_X1_escaped := mj_snd (own := RX1) (ini := false) (pE := 0) (bk := 0) (cn := 0) rfl (by decide) (fun h => nomatch h) (fun h => nomatch h) cf_X1_escaped
theorem rk_X1_108 {μ : mj_I} {j p0 p1 : Nat} {Es : mj_X (List Value)} (ho : μ.1 = RX1) (hlen : ∀ σ, mj_ln 1 (Es σ)) (hfr : 2 ≤ μ.2.2.2.1) (hj : j ≤ 8) (hrg : μ.2.2.2.2.2.2 p1 = true) (d : decode μ.2.1 p1 = .ok (.invokestatic 108, 3)) (e2 : mj_Ar μ j p0 p1 Es) : mj_Ec μ j p0 (p1 + 3) (mx_cs m_X1_escaped Es) := r_callS (y := yX1_escaped) (ccy := cX1_escaped) (nLy := 1) (fry := 1) (n := 1) (rety := (some .int)) sd_X1_escaped (by rw [ho]; exact lw_S q535 q536 q119 q537) (by decide +kernel) (by decide) hlen hfr hj hrg d e2
abbrev mi_X1_character : mj_I := (RX1, cX1_character, 3, 2, false, [], (fun _ => true))
noncomputable def b_X1_character : mj_X mj_F :=
  (mx_seq (mx_set 1 (mx_cond (mx_cmp c_eq (mx_asi (mx_cv 0 m_X1_look (mx_vr 0) (mx_cons .int (mx_k (1 : Int32)) mx_nil))) (mx_k (92 : Int32))) (mx_k (1 : Int32)) (mx_k (0 : Int32))))
  (mx_seq (mx_set 2 (mx_cond (mx_is z_ne (mx_v 1)) (mx_asi (mx_cs m_X1_escaped (mx_cons .int (mx_asi (mx_cv 0 m_X1_look (mx_vr 0) (mx_cons .int (mx_k (2 : Int32)) mx_nil))) mx_nil))) (mx_cond (mx_or (mx_cmp c_eq (mx_asi (mx_cv 0 m_X1_look (mx_vr 0) (mx_cons .int (mx_k (1 : Int32)) mx_nil))) (mx_k (39 : Int32))) (mx_cmp c_eq (mx_asi (mx_cv 0 m_X1_look (mx_vr 0) (mx_cons .int (mx_k (1 : Int32)) mx_nil))) (mx_k (10 : Int32)))) (mx_k (-1 : Int32)) (mx_asi (mx_cv 0 m_X1_look (mx_vr 0) (mx_cons .int (mx_k (1 : Int32)) mx_nil))))))
  (mx_seq (mx_put 0 22 (mx_vr 0) (mx_cond (mx_is z_ne (mx_v 1)) (mx_k (4 : Int32)) (mx_k (3 : Int32))))
  (mx_ret .int (mx_cond (mx_cmp c_eq (mx_asi (mx_cv 0 m_X1_look (mx_vr 0) (mx_cons .int (mx_bin o_isub (mx_get 0 22 (mx_vr 0)) (mx_k (1 : Int32))) mx_nil))) (mx_k (39 : Int32))) (mx_v 2) (mx_k (-1 : Int32)))))))
set_option maxRecDepth 100000 in
set_option maxHeartbeats 4000000 in
theorem cf_X1_character : mj_Sm mi_X1_character 0 0 0 0 b_X1_character :=
  (r_seq (p1 := 16) (r_istore_n (p1 := 15) dX1_character_15 rfl (by decide) (r_cond (p1 := 10) (p2 := 14) (p3 := 15) (r_ceq_f (p1 := 5) (p2 := 7) dX1_character_7 rfl (r_asi (rk_X1_51 (p1 := 1) (p2 := 2) rfl (r_lenS r_len0) (by decide) (by decide) rfl dX1_character_2 (r_aload_n dX1_character_0 rfl) (r_cons (p1 := 2) mj_wi (r_iconst dX1_character_1 rfl) r_nil))) (r_bipush dX1_character_5 rfl)) (r_egoto (p1 := 11) dX1_character_11 rfl (r_iconst dX1_character_10 rfl)) (r_iconst dX1_character_14 rfl)))
  (r_seq (p1 := 61) (r_istore_n (p1 := 60) dX1_character_60 rfl (by decide) (r_cond (p1 := 20) (p2 := 31) (p3 := 60) (r_zne_f (p1 := 17) dX1_character_17 rfl (r_iload_n dX1_character_16 rfl)) (r_egoto (p1 := 28) dX1_character_28 rfl (r_asi (rk_X1_108 (p1 := 25) rfl (r_lenS r_len0) (by decide) (by decide) rfl dX1_character_25 (r_cons (p1 := 25) mj_wi (r_asi (rk_X1_51 (p1 := 21) (p2 := 22) rfl (r_lenS r_len0) (by decide) (by decide) rfl dX1_character_22 (r_aload_n dX1_character_20 rfl) (r_cons (p1 := 22) mj_wi (r_iconst dX1_character_21 rfl) r_nil))) r_nil)))) (r_cond (p1 := 51) (p2 := 55) (p3 := 60) (r_or (p1 := 41) (p2 := 51) (p3 := 55) (r_ceq_t (p1 := 36) (p2 := 38) dX1_character_38 rfl (r_asi (rk_X1_51 (p1 := 32) (p2 := 33) rfl (r_lenS r_len0) (by decide) (by decide) rfl dX1_character_33 (r_aload_n dX1_character_31 rfl) (r_cons (p1 := 33) mj_wi (r_iconst dX1_character_32 rfl) r_nil))) (r_bipush dX1_character_36 rfl)) (r_ceq_f (p1 := 46) (p2 := 48) dX1_character_48 rfl (r_asi (rk_X1_51 (p1 := 42) (p2 := 43) rfl (r_lenS r_len0) (by decide) (by decide) rfl dX1_character_43 (r_aload_n dX1_character_41 rfl) (r_cons (p1 := 43) mj_wi (r_iconst dX1_character_42 rfl) r_nil))) (r_bipush dX1_character_46 rfl))) (r_egoto (p1 := 52) dX1_character_52 rfl (r_iconst dX1_character_51 rfl)) (r_asi (rk_X1_51 (p1 := 56) (p2 := 57) rfl (r_lenS r_len0) (by decide) (by decide) rfl dX1_character_57 (r_aload_n dX1_character_55 rfl) (r_cons (p1 := 57) mj_wi (r_iconst dX1_character_56 rfl) r_nil))))))
  (r_seq (p1 := 74) (rp_X1_103 (p1 := 62) (p2 := 71) rfl dX1_character_71 (r_aload_n dX1_character_61 rfl) (r_cond (p1 := 66) (p2 := 70) (p3 := 71) (r_zne_f (p1 := 63) dX1_character_63 rfl (r_iload_n dX1_character_62 rfl)) (r_egoto (p1 := 67) dX1_character_67 rfl (r_iconst dX1_character_66 rfl)) (r_iconst dX1_character_70 rfl)))
  (r_reti (p1 := 94) dX1_character_94 (r_cond (p1 := 89) (p2 := 93) (p3 := 94) (r_ceq_f (p1 := 84) (p2 := 86) dX1_character_86 rfl (r_asi (rk_X1_51 (p1 := 75) (p2 := 81) rfl (r_lenS r_len0) (by decide) (by decide) rfl dX1_character_81 (r_aload_n dX1_character_74 rfl) (r_cons (p1 := 81) mj_wi (r_isub (p1 := 79) (p2 := 80) dX1_character_80 (rg_X1_103 (p1 := 76) rfl dX1_character_76 (r_aload_n dX1_character_75 rfl)) (r_iconst dX1_character_79 rfl)) r_nil))) (r_bipush dX1_character_84 rfl)) (r_egoto (p1 := 90) dX1_character_90 rfl (r_iload_n dX1_character_89 rfl)) (r_iconst dX1_character_93 rfl))))))
noncomputable def m_X1_character : List Value → mj_H → mj_Res := mj_mk (some .int) 3 b_X1_character
theorem sd_X1_character : mj_Snd yX1_character (ws_ yX1_character cX1_character 3 (some .int)) 2 m_X1_character := mj_snd (own := RX1) (ini := false) (pE := 0) (bk := 0) (cn := 0) rfl (by decide) (fun h => nomatch h) (fun h => nomatch h) cf_X1_character
abbrev mi_X1_isString : mj_I := (RX1, cX1_isString, 3, 2, false, [], (fun _ => true))
noncomputable def b_X1_isString : mj_X mj_F :=
  (mx_seq (mx_set 1 (mx_k (1 : Int32)))
  (mx_seq (mx_set 2 (mx_k (1 : Int32)))
  (mx_seq (mx_loop (mx_and (mx_is z_ne (mx_v 2)) (mx_cmp c_ne (mx_asi (mx_cv 0 m_X1_look (mx_vr 0) (mx_cons .int (mx_v 1) mx_nil))) (mx_k (34 : Int32))))
  (mx_seq (mx_set 2 (mx_cond (mx_and (mx_cmp c_ne (mx_asi (mx_cv 0 m_X1_look (mx_vr 0) (mx_cons .int (mx_v 1) mx_nil))) (mx_k (10 : Int32))) (mx_or (mx_cmp c_ne (mx_asi (mx_cv 0 m_X1_look (mx_vr 0) (mx_cons .int (mx_v 1) mx_nil))) (mx_k (92 : Int32))) (mx_is z_ge (mx_asi (mx_cs m_X1_escaped (mx_cons .int (mx_asi (mx_cv 0 m_X1_look (mx_vr 0) (mx_cons .int (mx_bin o_iadd (mx_v 1) (mx_k (1 : Int32))) mx_nil))) mx_nil)))))) (mx_k (1 : Int32)) (mx_k (0 : Int32))))
  (mx_set 1 (mx_bin o_iadd (mx_v 1) (mx_cond (mx_cmp c_eq (mx_asi (mx_cv 0 m_X1_look (mx_vr 0) (mx_cons .int (mx_v 1) mx_nil))) (mx_k (92 : Int32))) (mx_k (2 : Int32)) (mx_k (1 : Int32))))))
  mx_skip)
  (mx_ret .int (mx_v 2)))))
set_option maxRecDepth 100000 in
set_option maxHeartbeats 4000000 in
theorem cf_X1_isString : mj_Sm mi_X1_isString 0 0 0 0 b_X1_isString :=
  (r_seq (p1 := 2) (r_istore_n (p1 := 1) dX1_isString_1 rfl (by decide) (r_iconst dX1_isString_0 rfl))
  (r_seq (p1 := 4) (r_istore_n (p1 := 3) dX1_isString_3 rfl (by decide) (r_iconst dX1_isString_2 rfl))
  (r_seq (p1 := 78) (r_loop (p1 := 18) (p2 := 4) (pE := 78) (r_and (p1 := 8) (p2 := 18) (p3 := 78) (r_zne_f (p1 := 5) dX1_isString_5 rfl (r_iload_n dX1_isString_4 rfl)) (r_cne_f (p1 := 13) (p2 := 15) dX1_isString_15 rfl (r_asi (rk_X1_51 (p1 := 9) (p2 := 10) rfl (r_lenS r_len0) (by decide) (by decide) rfl dX1_isString_10 (r_aload_n dX1_isString_8 rfl) (r_cons (p1 := 10) mj_wi (r_iload_n dX1_isString_9 rfl) r_nil))) (r_bipush dX1_isString_13 rfl)))
  (r_goto (p1 := 75) dX1_isString_75 rfl (r_seq (p1 := 57) (r_istore_n (p1 := 56) dX1_isString_56 rfl (by decide) (r_cond (p1 := 51) (p2 := 55) (p3 := 56) (r_and (p1 := 28) (p2 := 51) (p3 := 55) (r_cne_f (p1 := 23) (p2 := 25) dX1_isString_25 rfl (r_asi (rk_X1_51 (p1 := 19) (p2 := 20) rfl (r_lenS r_len0) (by decide) (by decide) rfl dX1_isString_20 (r_aload_n dX1_isString_18 rfl) (r_cons (p1 := 20) mj_wi (r_iload_n dX1_isString_19 rfl) r_nil))) (r_bipush dX1_isString_23 rfl)) (r_or (p1 := 38) (p2 := 51) (p3 := 55) (r_cne_t (p1 := 33) (p2 := 35) dX1_isString_35 rfl (r_asi (rk_X1_51 (p1 := 29) (p2 := 30) rfl (r_lenS r_len0) (by decide) (by decide) rfl dX1_isString_30 (r_aload_n dX1_isString_28 rfl) (r_cons (p1 := 30) mj_wi (r_iload_n dX1_isString_29 rfl) r_nil))) (r_bipush dX1_isString_33 rfl)) (r_zge_f (p1 := 48) dX1_isString_48 rfl (r_asi (rk_X1_108 (p1 := 45) rfl (r_lenS r_len0) (by decide) (by decide) rfl dX1_isString_45 (r_cons (p1 := 45) mj_wi (r_asi (rk_X1_51 (p1 := 39) (p2 := 42) rfl (r_lenS r_len0) (by decide) (by decide) rfl dX1_isString_42 (r_aload_n dX1_isString_38 rfl) (r_cons (p1 := 42) mj_wi (r_iadd (p1 := 40) (p2 := 41) dX1_isString_41 (r_iload_n dX1_isString_39 rfl) (r_iconst dX1_isString_40 rfl)) r_nil))) r_nil)))))) (r_egoto (p1 := 52) dX1_isString_52 rfl (r_iconst dX1_isString_51 rfl)) (r_iconst dX1_isString_55 rfl)))
  (r_istore_n (p1 := 74) dX1_isString_74 rfl (by decide) (r_iadd (p1 := 58) (p2 := 73) dX1_isString_73 (r_iload_n dX1_isString_57 rfl) (r_cond (p1 := 68) (p2 := 72) (p3 := 73) (r_ceq_f (p1 := 63) (p2 := 65) dX1_isString_65 rfl (r_asi (rk_X1_51 (p1 := 59) (p2 := 60) rfl (r_lenS r_len0) (by decide) (by decide) rfl dX1_isString_60 (r_aload_n dX1_isString_58 rfl) (r_cons (p1 := 60) mj_wi (r_iload_n dX1_isString_59 rfl) r_nil))) (r_bipush dX1_isString_63 rfl)) (r_egoto (p1 := 69) dX1_isString_69 rfl (r_iconst dX1_isString_68 rfl)) (r_iconst dX1_isString_72 rfl))))))
  r_skip)
  (r_reti (p1 := 79) dX1_isString_79 (r_iload_n dX1_isString_78 rfl)))))
noncomputable def m_X1_isString : List Value → mj_H → mj_Res := mj_mk (some .boolean) 3 b_X1_isString
theorem sd_X1_isString : mj_Snd yX1_isString (ws_ yX1_isString cX1_isString 3 (some .boolean)) 2 m_X1_isString := mj_snd (own := RX1) (ini := false) (pE := 0) (bk := 0) (cn := 0) rfl (by decide) (fun h => nomatch h) (fun h => nomatch h) cf_X1_isString
abbrev mi_X1_small : mj_I := (RX1, cX1_small, 5, 2, false, [], (fun _ => true))
noncomputable def b_X1_small : mj_X mj_F :=
  (mx_seq (mx_set 3 (mx_bin o_isub (mx_v 2) (mx_v 1)))
  (mx_seq (mx_if (mx_or (mx_or (mx_or (mx_or (mx_cmp c_lt (mx_v 3) (mx_k (1 : Int32))) (mx_cmp c_gt (mx_v 3) (mx_k (2 : Int32)))) (mx_not (mx_is z_ne (mx_asi (mx_cs m_X1_isDigit (mx_cons .int (mx_asi (mx_cv 0 m_X1_look (mx_vr 0) (mx_cons .int (mx_v 1) mx_nil))) mx_nil)))))) (mx_not (mx_is z_ne (mx_asi (mx_cs m_X1_isDigit (mx_cons .int (mx_asi (mx_cv 0 m_X1_look (mx_vr 0) (mx_cons .int (mx_bin o_isub (mx_v 2) (mx_k (1 : Int32))) mx_nil))) mx_nil)))))) (mx_and (mx_cmp c_eq (mx_v 3) (mx_k (2 : Int32))) (mx_cmp c_eq (mx_asi (mx_cv 0 m_X1_look (mx_vr 0) (mx_cons .int (mx_v 1) mx_nil))) (mx_k (48 : Int32)))))
   (mx_ret .int (mx_k (-1 : Int32)))
   mx_skip)
  (mx_seq (mx_set 4 (mx_cond (mx_cmp c_eq (mx_v 3) (mx_k (1 : Int32))) (mx_bin o_isub (mx_asi (mx_cv 0 m_X1_look (mx_vr 0) (mx_cons .int (mx_v 1) mx_nil))) (mx_k (48 : Int32))) (mx_bin o_isub (mx_bin o_iadd (mx_bin o_imul (mx_k (10 : Int32)) (mx_bin o_isub (mx_asi (mx_cv 0 m_X1_look (mx_vr 0) (mx_cons .int (mx_v 1) mx_nil))) (mx_k (48 : Int32)))) (mx_asi (mx_cv 0 m_X1_look (mx_vr 0) (mx_cons .int (mx_bin o_iadd (mx_v 1) (mx_k (1 : Int32))) mx_nil)))) (mx_k (48 : Int32)))))
  (mx_ret .int (mx_cond (mx_cmp c_lt (mx_v 4) (mx_k (32 : Int32))) (mx_v 4) (mx_k (-1 : Int32)))))))
set_option maxRecDepth 100000 in
set_option maxHeartbeats 4000000 in
theorem cf_X1_small : mj_Sm mi_X1_small 0 0 0 0 b_X1_small :=
  (r_seq (p1 := 4) (r_istore_n (p1 := 3) dX1_small_3 rfl (by decide) (r_isub (p1 := 1) (p2 := 2) dX1_small_2 (r_iload_n dX1_small_0 rfl) (r_iload_n dX1_small_1 rfl)))
  (r_seq (p1 := 55) (r_if (p1 := 53) (p2 := 55) (p3 := 55) (r_or (p1 := 38) (p2 := 53) (p3 := 55) (r_or (p1 := 25) (p2 := 53) (p3 := 38) (r_or (p1 := 14) (p2 := 53) (p3 := 25) (r_or (p1 := 9) (p2 := 53) (p3 := 14) (r_clt_t (p1 := 5) (p2 := 6) dX1_small_6 rfl (r_iload_n dX1_small_4 rfl) (r_iconst dX1_small_5 rfl)) (r_cgt_t (p1 := 10) (p2 := 11) dX1_small_11 rfl (r_iload_n dX1_small_9 rfl) (r_iconst dX1_small_10 rfl))) (r_not (r_zne_f (p1 := 22) dX1_small_22 rfl (r_asi (rk_X1_55 (p1 := 19) rfl (r_lenS r_len0) (by decide) (by decide) rfl dX1_small_19 (r_cons (p1 := 19) mj_wi (r_asi (rk_X1_51 (p1 := 15) (p2 := 16) rfl (r_lenS r_len0) (by decide) (by decide) rfl dX1_small_16 (r_aload_n dX1_small_14 rfl) (r_cons (p1 := 16) mj_wi (r_iload_n dX1_small_15 rfl) r_nil))) r_nil)))))) (r_not (r_zne_f (p1 := 35) dX1_small_35 rfl (r_asi (rk_X1_55 (p1 := 32) rfl (r_lenS r_len0) (by decide) (by decide) rfl dX1_small_32 (r_cons (p1 := 32) mj_wi (r_asi (rk_X1_51 (p1 := 26) (p2 := 29) rfl (r_lenS r_len0) (by decide) (by decide) rfl dX1_small_29 (r_aload_n dX1_small_25 rfl) (r_cons (p1 := 29) mj_wi (r_isub (p1 := 27) (p2 := 28) dX1_small_28 (r_iload_n dX1_small_26 rfl) (r_iconst dX1_small_27 rfl)) r_nil))) r_nil)))))) (r_and (p1 := 43) (p2 := 53) (p3 := 55) (r_ceq_f (p1 := 39) (p2 := 40) dX1_small_40 rfl (r_iload_n dX1_small_38 rfl) (r_iconst dX1_small_39 rfl)) (r_ceq_f (p1 := 48) (p2 := 50) dX1_small_50 rfl (r_asi (rk_X1_51 (p1 := 44) (p2 := 45) rfl (r_lenS r_len0) (by decide) (by decide) rfl dX1_small_45 (r_aload_n dX1_small_43 rfl) (r_cons (p1 := 45) mj_wi (r_iload_n dX1_small_44 rfl) r_nil))) (r_bipush dX1_small_48 rfl))))
   (r_reti (p1 := 54) dX1_small_54 (r_iconst dX1_small_53 rfl))
   r_skip)
  (r_seq (p1 := 95) (r_istore (p1 := 93) dX1_small_93 (by decide) (r_cond (p1 := 60) (p2 := 71) (p3 := 93) (r_ceq_f (p1 := 56) (p2 := 57) dX1_small_57 rfl (r_iload_n dX1_small_55 rfl) (r_iconst dX1_small_56 rfl)) (r_egoto (p1 := 68) dX1_small_68 rfl (r_isub (p1 := 65) (p2 := 67) dX1_small_67 (r_asi (rk_X1_51 (p1 := 61) (p2 := 62) rfl (r_lenS r_len0) (by decide) (by decide) rfl dX1_small_62 (r_aload_n dX1_small_60 rfl) (r_cons (p1 := 62) mj_wi (r_iload_n dX1_small_61 rfl) r_nil))) (r_bipush dX1_small_65 rfl))) (r_isub (p1 := 90) (p2 := 92) dX1_small_92 (r_iadd (p1 := 82) (p2 := 89) dX1_small_89 (r_imul (p1 := 73) (p2 := 81) dX1_small_81 (r_bipush dX1_small_71 rfl) (r_isub (p1 := 78) (p2 := 80) dX1_small_80 (r_asi (rk_X1_51 (p1 := 74) (p2 := 75) rfl (r_lenS r_len0) (by decide) (by decide) rfl dX1_small_75 (r_aload_n dX1_small_73 rfl) (r_cons (p1 := 75) mj_wi (r_iload_n dX1_small_74 rfl) r_nil))) (r_bipush dX1_small_78 rfl))) (r_asi (rk_X1_51 (p1 := 83) (p2 := 86) rfl (r_lenS r_len0) (by decide) (by decide) rfl dX1_small_86 (r_aload_n dX1_small_82 rfl) (r_cons (p1 := 86) mj_wi (r_iadd (p1 := 84) (p2 := 85) dX1_small_85 (r_iload_n dX1_small_83 rfl) (r_iconst dX1_small_84 rfl)) r_nil)))) (r_bipush dX1_small_90 rfl))))
  (r_reti (p1 := 108) dX1_small_108 (r_cond (p1 := 102) (p2 := 107) (p3 := 108) (r_clt_f (p1 := 97) (p2 := 99) dX1_small_99 rfl (r_iload dX1_small_95) (r_bipush dX1_small_97 rfl)) (r_egoto (p1 := 104) dX1_small_104 rfl (r_iload dX1_small_102)) (r_iconst dX1_small_107 rfl))))))
noncomputable def m_X1_small : List Value → mj_H → mj_Res := mj_mk (some .int) 5 b_X1_small
theorem sd_X1_small : mj_Snd yX1_small (ws_ yX1_small cX1_small 5 (some .int)) 2 m_X1_small := mj_snd (own := RX1) (ini := false) (pE := 0) (bk := 0) (cn := 0) rfl (by decide) (fun h => nomatch h) (fun h => nomatch h) cf_X1_small
theorem rk_X1_127 {μ : mj_I} {j p0 p1 p2 : Nat} {O : mj_X (Option Nat)} {Es : mj_X (List Value)} (ho : μ.1 = RX1) (hlen : ∀ σ, mj_ln 0 (Es σ)) (hfr : 3 ≤ μ.2.2.2.1) (hj : j ≤ 8) (hrg : μ.2.2.2.2.2.2 p2 = true) (d : decode μ.2.1 p2 = .ok (.invokevirtual 127, 3)) (e1 : mj_E va_rf μ j p0 p1 O) (e2 : mj_Ar μ (j + 1) p1 p2 Es) : mj_Ec μ j p0 (p2 + 3) (mx_sv mj_strlen O Es) := r_callStr (y := yJ5_length) (ccy := cJ5_length) (nLy := 1) (fry := 2) (n := 0) (rety := (some .int)) jd_length (by rw [ho]; exact lw_V q457 q458 q459 q127 q460) (by decide +kernel) (by decide) hlen hfr hj hrg d e1 e2
theorem rk_X1_131 {μ : mj_I} {j p0 p1 p2 : Nat} {O : mj_X (Option Nat)} {Es : mj_X (List Value)} (ho : μ.1 = RX1) (hlen : ∀ σ, mj_ln 1 (Es σ)) (hfr : 8 ≤ μ.2.2.2.1) (hj : j ≤ 8) (hrg : μ.2.2.2.2.2.2 p2 = true) (d : decode μ.2.1 p2 = .ok (.invokevirtual 131, 3)) (e1 : mj_E va_rf μ j p0 p1 O) (e2 : mj_Ar μ (j + 1) p1 p2 Es) : mj_Ec μ j p0 (p2 + 3) (mx_sv mj_strchr O Es) := r_callStr (y := yJ5_charAt) (ccy := cJ5_charAt) (nLy := 2) (fry := 7) (n := 1) (rety := (some .char)) jd_charAt (by rw [ho]; exact lw_V q467 q468 q469 q127 q470) (by decide +kernel) (by decide) hlen hfr hj hrg d e1 e2
abbrev mi_X1_find : mj_I := (RX1, cX1_find, 9, 8, false, [], (fun _ => true))
noncomputable def b_X1_find : mj_X mj_F :=
  (mx_seq (mx_set 4 (mx_asi (mx_sv mj_strlen (mx_vr 1) mx_nil)))
  (mx_seq (mx_seq (mx_set 5 (mx_k (0 : Int32)))
  (mx_loop (mx_cmp c_lt (mx_bin o_iadd (mx_bin o_iadd (mx_v 5) (mx_v 3)) (mx_k (1 : Int32))) (mx_v 4))
  (mx_seq (mx_if (mx_or (mx_cmp c_ne (mx_asi (mx_sv mj_strchr (mx_vr 1) (mx_cons .int (mx_v 5) mx_nil))) (mx_k (32 : Int32))) (mx_cmp c_ne (mx_asi (mx_sv mj_strchr (mx_vr 1) (mx_cons .int (mx_bin o_iadd (mx_bin o_iadd (mx_v 5) (mx_v 3)) (mx_k (1 : Int32))) mx_nil))) (mx_k (32 : Int32))))
   mx_cnt
   mx_skip)
  (mx_seq (mx_set 6 (mx_cond (mx_not (mx_is z_ne (mx_asi (mx_cs m_X1_isDigit (mx_cons .int (mx_asi (mx_sv mj_strchr (mx_vr 1) (mx_cons .int (mx_bin o_iadd (mx_v 5) (mx_k (1 : Int32))) mx_nil))) mx_nil))))) (mx_k (1 : Int32)) (mx_k (0 : Int32))))
  (mx_seq (mx_seq (mx_set 7 (mx_k (0 : Int32)))
  (mx_loop (mx_and (mx_cmp c_lt (mx_v 7) (mx_v 3)) (mx_is z_ne (mx_v 6)))
  (mx_set 6 (mx_cond (mx_cmp c_eq (mx_asi (mx_sv mj_strchr (mx_vr 1) (mx_cons .int (mx_bin o_iadd (mx_bin o_iadd (mx_v 5) (mx_k (1 : Int32))) (mx_v 7)) mx_nil))) (mx_bin o_iand (mx_ab (mx_getr 0 0 (mx_vr 0)) (mx_bin o_iadd (mx_v 2) (mx_v 7))) (mx_k (255 : Int32)))) (mx_k (1 : Int32)) (mx_k (0 : Int32))))
  (mx_inc 7 (1 : Int32))))
  (mx_seq (mx_if (mx_not (mx_is z_ne (mx_v 6)))
   mx_cnt
   mx_skip)
  (mx_seq (mx_set 7 (mx_k (0 : Int32)))
  (mx_seq (mx_seq (mx_set 8 (mx_bin o_iadd (mx_bin o_iadd (mx_v 5) (mx_v 3)) (mx_k (2 : Int32))))
  (mx_loop (mx_cmp c_ne (mx_asi (mx_sv mj_strchr (mx_vr 1) (mx_cons .int (mx_v 8) mx_nil))) (mx_k (32 : Int32)))
  (mx_set 7 (mx_bin o_isub (mx_bin o_iadd (mx_bin o_imul (mx_k (10 : Int32)) (mx_v 7)) (mx_asi (mx_sv mj_strchr (mx_vr 1) (mx_cons .int (mx_v 8) mx_nil)))) (mx_k (48 : Int32))))
  (mx_inc 8 (1 : Int32))))
  (mx_ret .int (mx_v 7))))))))
  (mx_inc 5 (1 : Int32))))
  (mx_ret .int (mx_k (-1 : Int32)))))
set_option maxRecDepth 100000 in
set_option maxHeartbeats 4000000 in
theorem cf_X1_find : mj_Sm mi_X1_find 0 0 0 0 b_X1_find :=
  (r_seq (p1 := 6) (r_istore (p1 := 4) dX1_find_4 (by decide) (r_asi (rk_X1_127 (p1 := 1) (p2 := 1) rfl r_len0 (by decide) (by decide) rfl dX1_find_1 (r_aload_n dX1_find_0 rfl) r_nil)))
  (r_seq (p1 := 186) (r_seq (p1 := 9) (r_istore (p1 := 7) dX1_find_7 (by decide) (r_iconst dX1_find_6 rfl))
  (r_loop (p1 := 20) (p2 := 180) (pE := 186) (r_clt_f (p1 := 15) (p2 := 17) dX1_find_17 rfl (r_iadd (p1 := 13) (p2 := 14) dX1_find_14 (r_iadd (p1 := 11) (p2 := 12) dX1_find_12 (r_iload dX1_find_9) (r_iload_n dX1_find_11 rfl)) (r_iconst dX1_find_13 rfl)) (r_iload dX1_find_15))
  (r_seq (p1 := 49) (r_if (p1 := 180) (p2 := 49) (p3 := 49) (r_or (p1 := 31) (p2 := 180) (p3 := 49) (r_cne_t (p1 := 26) (p2 := 28) dX1_find_28 rfl (r_asi (rk_X1_131 (p1 := 21) (p2 := 23) rfl (r_lenS r_len0) (by decide) (by decide) rfl dX1_find_23 (r_aload_n dX1_find_20 rfl) (r_cons (p1 := 23) mj_wi (r_iload dX1_find_21) r_nil))) (r_bipush dX1_find_26 rfl)) (r_cgT (p1 := 46) dX1_find_46 rfl (r_cne_f (p1 := 41) (p2 := 43) dX1_find_43 rfl (r_asi (rk_X1_131 (p1 := 32) (p2 := 38) rfl (r_lenS r_len0) (by decide) (by decide) rfl dX1_find_38 (r_aload_n dX1_find_31 rfl) (r_cons (p1 := 38) mj_wi (r_iadd (p1 := 36) (p2 := 37) dX1_find_37 (r_iadd (p1 := 34) (p2 := 35) dX1_find_35 (r_iload dX1_find_32) (r_iload_n dX1_find_34 rfl)) (r_iconst dX1_find_36 rfl)) r_nil))) (r_bipush dX1_find_41 rfl))))
   r_cnt0
   r_skip)
  (r_seq (p1 := 70) (r_istore (p1 := 68) dX1_find_68 (by decide) (r_cond (p1 := 63) (p2 := 67) (p3 := 68) (r_not (r_zne_t (p1 := 60) dX1_find_60 rfl (r_asi (rk_X1_55 (p1 := 57) rfl (r_lenS r_len0) (by decide) (by decide) rfl dX1_find_57 (r_cons (p1 := 57) mj_wi (r_asi (rk_X1_131 (p1 := 50) (p2 := 54) rfl (r_lenS r_len0) (by decide) (by decide) rfl dX1_find_54 (r_aload_n dX1_find_49 rfl) (r_cons (p1 := 54) mj_wi (r_iadd (p1 := 52) (p2 := 53) dX1_find_53 (r_iload dX1_find_50) (r_iconst dX1_find_52 rfl)) r_nil))) r_nil))))) (r_egoto (p1 := 64) dX1_find_64 rfl (r_iconst dX1_find_63 rfl)) (r_iconst dX1_find_67 rfl)))
  (r_seq (p1 := 124) (r_seq (p1 := 73) (r_istore (p1 := 71) dX1_find_71 (by decide) (r_iconst dX1_find_70 rfl))
  (r_loop (p1 := 84) (p2 := 118) (pE := 124) (r_and (p1 := 79) (p2 := 84) (p3 := 124) (r_clt_f (p1 := 75) (p2 := 76) dX1_find_76 rfl (r_iload dX1_find_73) (r_iload_n dX1_find_75 rfl)) (r_zne_f (p1 := 81) dX1_find_81 rfl (r_iload dX1_find_79)))
  (r_istore (p1 := 116) dX1_find_116 (by decide) (r_cond (p1 := 111) (p2 := 115) (p3 := 116) (r_ceq_f (p1 := 95) (p2 := 108) dX1_find_108 rfl (r_asi (rk_X1_131 (p1 := 85) (p2 := 92) rfl (r_lenS r_len0) (by decide) (by decide) rfl dX1_find_92 (r_aload_n dX1_find_84 rfl) (r_cons (p1 := 92) mj_wi (r_iadd (p1 := 89) (p2 := 91) dX1_find_91 (r_iadd (p1 := 87) (p2 := 88) dX1_find_88 (r_iload dX1_find_85) (r_iconst dX1_find_87 rfl)) (r_iload dX1_find_89)) r_nil))) (r_iand (p1 := 104) (p2 := 107) dX1_find_107 (r_baload (p1 := 99) (p2 := 103) dX1_find_103 (rg_X1_9 (p1 := 96) rfl dX1_find_96 (r_aload_n dX1_find_95 rfl)) (r_iadd (p1 := 100) (p2 := 102) dX1_find_102 (r_iload_n dX1_find_99 rfl) (r_iload dX1_find_100))) (r_sipush dX1_find_104 rfl))) (r_egoto (p1 := 112) dX1_find_112 rfl (r_iconst dX1_find_111 rfl)) (r_iconst dX1_find_115 rfl)))
  (r_goto (p1 := 121) dX1_find_121 rfl (r_iinc dX1_find_118 rfl (by decide)))))
  (r_seq (p1 := 132) (r_if (p1 := 129) (p2 := 132) (p3 := 132) (r_not (r_zne_t (p1 := 126) dX1_find_126 rfl (r_iload dX1_find_124)))
   (r_cnt dX1_find_129 rfl)
   r_skip)
  (r_seq (p1 := 135) (r_istore (p1 := 133) dX1_find_133 (by decide) (r_iconst dX1_find_132 rfl))
  (r_seq (p1 := 177) (r_seq (p1 := 143) (r_istore (p1 := 141) dX1_find_141 (by decide) (r_iadd (p1 := 139) (p2 := 140) dX1_find_140 (r_iadd (p1 := 137) (p2 := 138) dX1_find_138 (r_iload dX1_find_135) (r_iload_n dX1_find_137 rfl)) (r_iconst dX1_find_139 rfl)))
  (r_loop (p1 := 154) (p2 := 171) (pE := 177) (r_cne_f (p1 := 149) (p2 := 151) dX1_find_151 rfl (r_asi (rk_X1_131 (p1 := 144) (p2 := 146) rfl (r_lenS r_len0) (by decide) (by decide) rfl dX1_find_146 (r_aload_n dX1_find_143 rfl) (r_cons (p1 := 146) mj_wi (r_iload dX1_find_144) r_nil))) (r_bipush dX1_find_149 rfl))
  (r_istore (p1 := 169) dX1_find_169 (by decide) (r_isub (p1 := 166) (p2 := 168) dX1_find_168 (r_iadd (p1 := 159) (p2 := 165) dX1_find_165 (r_imul (p1 := 156) (p2 := 158) dX1_find_158 (r_bipush dX1_find_154 rfl) (r_iload dX1_find_156)) (r_asi (rk_X1_131 (p1 := 160) (p2 := 162) rfl (r_lenS r_len0) (by decide) (by decide) rfl dX1_find_162 (r_aload_n dX1_find_159 rfl) (r_cons (p1 := 162) mj_wi (r_iload dX1_find_160) r_nil)))) (r_bipush dX1_find_166 rfl)))
  (r_goto (p1 := 174) dX1_find_174 rfl (r_iinc dX1_find_171 rfl (by decide)))))
  (r_reti (p1 := 179) dX1_find_179 (r_iload dX1_find_177))))))))
  (r_goto (p1 := 183) dX1_find_183 rfl (r_iinc dX1_find_180 rfl (by decide)))))
  (r_reti (p1 := 187) dX1_find_187 (r_iconst dX1_find_186 rfl))))
noncomputable def m_X1_find : List Value → mj_H → mj_Res := mj_mk (some .int) 9 b_X1_find
theorem sd_X1_find : mj_Snd yX1_find (ws_ yX1_find cX1_find 9 (some .int)) 8 m_X1_find := mj_snd (own := RX1) (ini := false) (pE := 0) (bk := 0) (cn := 0) rfl (by decide) (fun h => nomatch h) (fun h => nomatch h) cf_X1_find
theorem rk_X1_111 {μ : mj_I} {j p0 p1 p2 : Nat} {O : mj_X (Option Nat)} {Es : mj_X (List Value)} (ho : μ.1 = RX1) (hlen : ∀ σ, mj_ln 2 (Es σ)) (hfr : 3 ≤ μ.2.2.2.1) (hj : j ≤ 8) (hrg : μ.2.2.2.2.2.2 p2 = true) (d : decode μ.2.1 p2 = .ok (.invokevirtual 111, 3)) (e1 : mj_E va_rf μ j p0 p1 O) (e2 : mj_Ar μ (j + 1) p1 p2 Es) : mj_Ec μ j p0 (p2 + 3) (mx_cv 0 m_X1_small O Es) := r_callV (y := yX1_small) (ccy := cX1_small) (nLy := 5) (fry := 2) (n := 2) (ci := 0) (rety := (some .int)) sd_X1_small rfl (by decide) (by rw [ho]; exact lw_V q546 q548 qs19 q119 q549) (by decide +kernel) (by decide) hlen hfr hj hrg d e1 e2
theorem rk_X1_117 {μ : mj_I} {j p0 p1 p2 : Nat} {O : mj_X (Option Nat)} {Es : mj_X (List Value)} (ho : μ.1 = RX1) (hlen : ∀ σ, mj_ln 3 (Es σ)) (hfr : 9 ≤ μ.2.2.2.1) (hj : j ≤ 8) (hrg : μ.2.2.2.2.2.2 p2 = true) (d : decode μ.2.1 p2 = .ok (.invokevirtual 117, 3)) (e1 : mj_E va_rf μ j p0 p1 O) (e2 : mj_Ar μ (j + 1) p1 p2 Es) : mj_Ec μ j p0 (p2 + 3) (mx_cv 0 m_X1_find O Es) := r_callV (y := yX1_find) (ccy := cX1_find) (nLy := 9) (fry := 8) (n := 3) (ci := 0) (rety := (some .int)) sd_X1_find rfl (by decide) (by rw [ho]; exact lw_V q453 q455 qs10 q119 q456) (by decide +kernel) (by decide) hlen hfr hj hrg d e1 e2
abbrev mi_X1_told : mj_I := (RX1, cX1_told, 4, 9, false, [], (fun _ => true))
noncomputable def b_X1_told : mj_X mj_F :=
  (mx_seq (mx_set 1 (mx_k (1 : Int32)))
  (mx_seq (mx_loop (mx_is z_ne (mx_asi (mx_cv 0 m_X1_isInName (mx_vr 0) (mx_cons .int (mx_v 1) mx_nil))))
  (mx_inc 1 (1 : Int32))
  mx_skip)
  (mx_seq (mx_put 0 22 (mx_vr 0) (mx_v 1))
  (mx_seq (mx_set 2 (mx_asi (mx_cv 0 m_X1_small (mx_vr 0) (mx_cons .int (mx_k (1 : Int32)) (mx_cons .int (mx_v 1) mx_nil)))))
  (mx_seq (mx_if (mx_or (mx_is z_ge (mx_v 2)) (mx_cmp c_eq (mx_v 1) (mx_k (1 : Int32))))
   (mx_ret .int (mx_v 2))
   mx_skip)
  (mx_seq (mx_set 3 (mx_cond (mx_cmp c_eq (mx_asi (mx_cv 0 m_X1_look (mx_vr 0) (mx_cons .int (mx_k (1 : Int32)) mx_nil))) (mx_k (102 : Int32))) (mx_asi (mx_cv 0 m_X1_small (mx_vr 0) (mx_cons .int (mx_k (2 : Int32)) (mx_cons .int (mx_v 1) mx_nil)))) (mx_k (-1 : Int32))))
  (mx_ret .int (mx_cond (mx_is z_ge (mx_v 3)) (mx_bin o_iadd (mx_k (32 : Int32)) (mx_v 3)) (mx_cond (mx_cmp c_gt (mx_v 1) (mx_k (25 : Int32))) (mx_k (-1 : Int32)) (mx_asi (mx_cv 0 m_X1_find (mx_vr 0) (mx_cons va_rf (mx_k (some 0)) (mx_cons .int (mx_bin o_iadd (mx_get 0 2 (mx_vr 0)) (mx_k (1 : Int32))) (mx_cons .int (mx_bin o_isub (mx_v 1) (mx_k (1 : Int32))) mx_nil))))))))))))))
set_option maxRecDepth 100000 in
set_option maxHeartbeats 4000000 in
theorem cf_X1_told : mj_Sm mi_X1_told 0 0 0 0 b_X1_told :=
  (r_seq (p1 := 2) (r_istore_n (p1 := 1) dX1_told_1 rfl (by decide) (r_iconst dX1_told_0 rfl))
  (r_seq (p1 := 16) (r_loop (p1 := 10) (p2 := 2) (pE := 16) (r_zne_f (p1 := 7) dX1_told_7 rfl (r_asi (rk_X1_80 (p1 := 3) (p2 := 4) rfl (r_lenS r_len0) (by decide) (by decide) rfl dX1_told_4 (r_aload_n dX1_told_2 rfl) (r_cons (p1 := 4) mj_wi (r_iload_n dX1_told_3 rfl) r_nil))))
  (r_goto (p1 := 13) dX1_told_13 rfl (r_iinc dX1_told_10 rfl (by decide)))
  r_skip)
  (r_seq (p1 := 21) (rp_X1_103 (p1 := 17) (p2 := 18) rfl dX1_told_18 (r_aload_n dX1_told_16 rfl) (r_iload_n dX1_told_17 rfl))
  (r_seq (p1 := 28) (r_istore_n (p1 := 27) dX1_told_27 rfl (by decide) (r_asi (rk_X1_111 (p1 := 22) (p2 := 24) rfl (r_lenS (r_lenS r_len0)) (by decide) (by decide) rfl dX1_told_24 (r_aload_n dX1_told_21 rfl) (r_cons (p1 := 23) mj_wi (r_iconst dX1_told_22 rfl) (r_cons (p1 := 24) mj_wi (r_iload_n dX1_told_23 rfl) r_nil)))))
  (r_seq (p1 := 39) (r_if (p1 := 37) (p2 := 39) (p3 := 39) (r_or (p1 := 32) (p2 := 37) (p3 := 39) (r_zge_t (p1 := 29) dX1_told_29 rfl (r_iload_n dX1_told_28 rfl)) (r_ceq_f (p1 := 33) (p2 := 34) dX1_told_34 rfl (r_iload_n dX1_told_32 rfl) (r_iconst dX1_told_33 rfl)))
   (r_reti (p1 := 38) dX1_told_38 (r_iload_n dX1_told_37 rfl))
   r_skip)
  (r_seq (p1 := 60) (r_istore_n (p1 := 59) dX1_told_59 rfl (by decide) (r_cond (p1 := 49) (p2 := 58) (p3 := 59) (r_ceq_f (p1 := 44) (p2 := 46) dX1_told_46 rfl (r_asi (rk_X1_51 (p1 := 40) (p2 := 41) rfl (r_lenS r_len0) (by decide) (by decide) rfl dX1_told_41 (r_aload_n dX1_told_39 rfl) (r_cons (p1 := 41) mj_wi (r_iconst dX1_told_40 rfl) r_nil))) (r_bipush dX1_told_44 rfl)) (r_egoto (p1 := 55) dX1_told_55 rfl (r_asi (rk_X1_111 (p1 := 50) (p2 := 52) rfl (r_lenS (r_lenS r_len0)) (by decide) (by decide) rfl dX1_told_52 (r_aload_n dX1_told_49 rfl) (r_cons (p1 := 51) mj_wi (r_iconst dX1_told_50 rfl) (r_cons (p1 := 52) mj_wi (r_iload_n dX1_told_51 rfl) r_nil))))) (r_iconst dX1_told_58 rfl)))
  (r_reti (p1 := 96) dX1_told_96 (r_cond (p1 := 64) (p2 := 71) (p3 := 96) (r_zge_f (p1 := 61) dX1_told_61 rfl (r_iload_n dX1_told_60 rfl)) (r_egoto (p1 := 68) dX1_told_68 rfl (r_iadd (p1 := 66) (p2 := 67) dX1_told_67 (r_bipush dX1_told_64 rfl) (r_iload_n dX1_told_66 rfl))) (r_cond (p1 := 77) (p2 := 81) (p3 := 96) (r_cgt_f (p1 := 72) (p2 := 74) dX1_told_74 rfl (r_iload_n dX1_told_71 rfl) (r_bipush dX1_told_72 rfl)) (r_egoto (p1 := 78) dX1_told_78 rfl (r_iconst dX1_told_77 rfl)) (r_asi (rk_X1_117 (p1 := 82) (p2 := 93) rfl (r_lenS (r_lenS (r_lenS r_len0))) (by decide) (by decide) rfl dX1_told_93 (r_aload_n dX1_told_81 rfl) (r_cons (p1 := 84) mj_wr (r_ldcS rfl dX1_told_82 rfl) (r_cons (p1 := 90) mj_wi (r_iadd (p1 := 88) (p2 := 89) dX1_told_89 (rg_X1_48 (p1 := 85) rfl dX1_told_85 (r_aload_n dX1_told_84 rfl)) (r_iconst dX1_told_88 rfl)) (r_cons (p1 := 93) mj_wi (r_isub (p1 := 91) (p2 := 92) dX1_told_92 (r_iload_n dX1_told_90 rfl) (r_iconst dX1_told_91 rfl)) r_nil))))))))))))))
noncomputable def m_X1_told : List Value → mj_H → mj_Res := mj_mk (some .int) 4 b_X1_told
theorem sd_X1_told : mj_Snd yX1_told (ws_ yX1_told cX1_told 4 (some .int)) 9 m_X1_told := mj_snd (own := RX1) (ini := false) (pE := 0) (bk := 0) (cn := 0) rfl (by decide) (fun h => nomatch h) (fun h => nomatch h) cf_X1_told
