-- walks (printed by main.py)
theorem e_V_remember {a0 : Nat} {a1 : Nat} {a2 : Int} {a3 : Int} {M : zHp} {q : zHp} (hf : f_V_remember a0 a1 a2 a3 M = some q) : zk M a0 = 0 := by
  unfold f_V_remember at hf
  exact (zif hf).1
set_option maxHeartbeats 4000000 in
set_option maxRecDepth 100000 in
theorem c_V_remember (D : va_G) (n0 : Nat) (l : Launch) {a0 : Nat} {a1 : Nat} {a2 : Int} {a3 : Int} {M : zHp} {M' : zHp} (hf : f_V_remember a0 a1 a2 a3 M = some M') : zM D n0 l y_V_remember b_V_remember 5 none 2 46 2 10 [zv n0 a0, zv n0 a1, zi a2, zi a3] M none M' := by
  refine zM.ofZ (by decide) (zcr (zcr (zci (zci zcn)))) (Nat.le_of_ble_eq_true rfl) ?_
  intro p e s m below meth c C hr hnm
  have C : zC D n0 p s m meth c b_V_remember 5 "LayerVault" := C
  refine z_eqL (L' := [some (zv n0 a0), some (zv n0 a1), some (zi a2), some (zi a3), none]) rfl ?_
  unfold f_V_remember at hf
  have hf := (zif hf).2
  refine z_aload_n C d_V_remember_0 rfl (z_pc (pc' := 1) rfl ?_)
  obtain ⟨x1, h2, hf⟩ := zbind hf
  refine z_getr C fl_V_145 rfl h2 d_V_remember_1 (z_pc (pc' := 4) rfl ?_)
  refine z_astore C d_V_remember_4 (by decide) (z_pl (pc' := 6) (L' := [some (zv n0 a0), some (zv n0 a1), some (zi a2), some (zi a3), some (zv n0 x1)]) rfl rfl ?_)
  refine z_aload C d_V_remember_6 rfl (z_pc (pc' := 8) rfl ?_)
  refine z_ifnonnull (tgt := 23) C d_V_remember_8 (by decide) (fun c3 => ?_) (fun c3 => (z_pc (pc' := 11) rfl ?_))
  · have hf := zneg c3 hf
    refine z_aload_n C d_V_remember_23 rfl (z_pc (pc' := 24) rfl ?_)
    refine z_aload C d_V_remember_24 rfl (z_pc (pc' := 26) rfl ?_)
    obtain ⟨x4, h5, hf⟩ := zbind hf
    refine z_getr C fl_V_150 rfl h5 d_V_remember_26 (z_pc (pc' := 29) rfl ?_)
    refine z_iconst C d_V_remember_29 (z_pc (pc' := 30) rfl ?_)
    obtain ⟨x6, h7, hf⟩ := zbind hf
    refine z_aald C (by decide) h7 d_V_remember_30 (z_pc (pc' := 31) rfl ?_)
    obtain ⟨M8, h9, hf⟩ := zbind hf
    refine z_putr C fp_V_145 rfl (by decide) rfl h9 d_V_remember_31 (z_pc (pc' := 34) rfl ?_)
    refine z_aload C d_V_remember_34 rfl (z_pc (pc' := 36) rfl ?_)
    refine z_aload_n C d_V_remember_36 rfl (z_pc (pc' := 37) rfl ?_)
    obtain ⟨x10, h11, hf⟩ := zbind hf
    refine z_getr C fl_V_153 rfl h11 d_V_remember_37 (z_pc (pc' := 40) rfl ?_)
    refine z_iload_n C d_V_remember_40 rfl (z_pc (pc' := 41) rfl ?_)
    obtain ⟨x12, h13, hf⟩ := zbind hf
    refine z_iald C h13 d_V_remember_41 (z_pc (pc' := 42) rfl ?_)
    refine z_bipush C d_V_remember_42 (by decide) (z_pc (pc' := 44) rfl ?_)
    refine z_irem C (by decide) d_V_remember_44 (z_pc (pc' := 45) rfl ?_)
    obtain ⟨M14, h15, hf⟩ := zbind hf
    refine z_puti C fp_V_156 (by decide) rfl h15 d_V_remember_45 (z_pc (pc' := 48) rfl ?_)
    refine z_aload C d_V_remember_48 rfl (z_pc (pc' := 50) rfl ?_)
    refine z_aload_n C d_V_remember_50 rfl (z_pc (pc' := 51) rfl ?_)
    obtain ⟨x16, h17, hf⟩ := zbind hf
    refine z_getr C fl_V_153 rfl h17 d_V_remember_51 (z_pc (pc' := 54) rfl ?_)
    refine z_iload_n C d_V_remember_54 rfl (z_pc (pc' := 55) rfl ?_)
    obtain ⟨x18, h19, hf⟩ := zbind hf
    refine z_iald C h19 d_V_remember_55 (z_pc (pc' := 56) rfl ?_)
    refine z_bipush C d_V_remember_56 (by decide) (z_pc (pc' := 58) rfl ?_)
    refine z_icmp_lt (tgt := 65) C d_V_remember_58 (by decide) (fun c20 => ?_) (fun c20 => z_pc (pc' := 61) rfl ?_)
    · have hf := zpos c20 hf
      refine z_iconst C d_V_remember_65 (z_pc (pc' := 66) rfl ?_)
      obtain ⟨M21, h22, hf⟩ := zbind hf
      refine z_putz C fp_V_159 (by decide) rfl h22 d_V_remember_66 (z_pc (pc' := 69) rfl ?_)
      refine z_aload C d_V_remember_69 rfl (z_pc (pc' := 71) rfl ?_)
      refine z_iload_n C d_V_remember_71 rfl (z_pc (pc' := 72) rfl ?_)
      obtain ⟨M23, h24, hf⟩ := zbind hf
      refine z_puti C fp_V_163 (by decide) rfl h24 d_V_remember_72 (z_pc (pc' := 75) rfl ?_)
      refine z_aload C d_V_remember_75 rfl (z_pc (pc' := 77) rfl ?_)
      refine z_aload_n C d_V_remember_77 rfl (z_pc (pc' := 78) rfl ?_)
      obtain ⟨x25, h26, hf⟩ := zbind hf
      refine z_getr C fl_V_164 rfl h26 d_V_remember_78 (z_pc (pc' := 81) rfl ?_)
      refine z_iload_n C d_V_remember_81 rfl (z_pc (pc' := 82) rfl ?_)
      obtain ⟨x27, h28, hf⟩ := zbind hf
      refine z_iald C h28 d_V_remember_82 (z_pc (pc' := 83) rfl ?_)
      obtain ⟨M29, h30, hf⟩ := zbind hf
      refine z_puti C fp_V_167 (by decide) rfl h30 d_V_remember_83 (z_pc (pc' := 86) rfl ?_)
      refine z_aload C d_V_remember_86 rfl (z_pc (pc' := 88) rfl ?_)
      refine z_aload_n C d_V_remember_88 rfl (z_pc (pc' := 89) rfl ?_)
      refine z_iload_n C d_V_remember_89 rfl (z_pc (pc' := 90) rfl ?_)
      obtain ⟨M32, h31, hf⟩ := zbind hf
      refine z_callV C [zv n0 a1, zi a2] [] kv_V_170 (c_E_settle D n0 l h31) (e_E_settle h31) ⟨(Nat.le_of_ble_eq_true rfl), (Nat.le_of_ble_eq_true rfl)⟩ (Nat.le_of_ble_eq_true rfl) ⟨(Nat.le_of_ble_eq_true rfl), (Nat.le_of_ble_eq_true rfl)⟩ d_V_remember_90 (z_pc (pc' := 93) rfl ?_)
      refine z_aload_n C d_V_remember_93 rfl (z_pc (pc' := 94) rfl ?_)
      obtain ⟨x33, h34, hf⟩ := zbind hf
      refine z_getr C fl_V_42 rfl h34 d_V_remember_94 (z_pc (pc' := 97) rfl ?_)
      refine z_aload C d_V_remember_97 rfl (z_pc (pc' := 99) rfl ?_)
      obtain ⟨M36, h35, hf⟩ := zbind hf
      refine z_callV C [zv n0 x1] [] kv_V_174 (c_Mt_insert D n0 l h35) (e_Mt_insert h35) ⟨(Nat.le_of_ble_eq_true rfl), (Nat.le_of_ble_eq_true rfl)⟩ (Nat.le_of_ble_eq_true rfl) ⟨(Nat.le_of_ble_eq_true rfl), (Nat.le_of_ble_eq_true rfl)⟩ d_V_remember_99 (z_pc (pc' := 102) rfl ?_)
      exact z_vret C hr (Nat.le_of_ble_eq_true rfl) (Nat.le_of_ble_eq_true rfl) d_V_remember_102 hf
    · have hf := zneg c20 hf
      refine z_iconst C d_V_remember_61 (z_pc (pc' := 62) rfl ?_)
      refine z_goto (tgt := 66) C d_V_remember_62 (by decide) ?_
      obtain ⟨M37, h38, hf⟩ := zbind hf
      refine z_putz C fp_V_159 (by decide) rfl h38 d_V_remember_66 (z_pc (pc' := 69) rfl ?_)
      refine z_aload C d_V_remember_69 rfl (z_pc (pc' := 71) rfl ?_)
      refine z_iload_n C d_V_remember_71 rfl (z_pc (pc' := 72) rfl ?_)
      obtain ⟨M39, h40, hf⟩ := zbind hf
      refine z_puti C fp_V_163 (by decide) rfl h40 d_V_remember_72 (z_pc (pc' := 75) rfl ?_)
      refine z_aload C d_V_remember_75 rfl (z_pc (pc' := 77) rfl ?_)
      refine z_aload_n C d_V_remember_77 rfl (z_pc (pc' := 78) rfl ?_)
      obtain ⟨x41, h42, hf⟩ := zbind hf
      refine z_getr C fl_V_164 rfl h42 d_V_remember_78 (z_pc (pc' := 81) rfl ?_)
      refine z_iload_n C d_V_remember_81 rfl (z_pc (pc' := 82) rfl ?_)
      obtain ⟨x43, h44, hf⟩ := zbind hf
      refine z_iald C h44 d_V_remember_82 (z_pc (pc' := 83) rfl ?_)
      obtain ⟨M45, h46, hf⟩ := zbind hf
      refine z_puti C fp_V_167 (by decide) rfl h46 d_V_remember_83 (z_pc (pc' := 86) rfl ?_)
      refine z_aload C d_V_remember_86 rfl (z_pc (pc' := 88) rfl ?_)
      refine z_aload_n C d_V_remember_88 rfl (z_pc (pc' := 89) rfl ?_)
      refine z_iload_n C d_V_remember_89 rfl (z_pc (pc' := 90) rfl ?_)
      obtain ⟨M48, h47, hf⟩ := zbind hf
      refine z_callV C [zv n0 a1, zi a2] [] kv_V_170 (c_E_settle D n0 l h47) (e_E_settle h47) ⟨(Nat.le_of_ble_eq_true rfl), (Nat.le_of_ble_eq_true rfl)⟩ (Nat.le_of_ble_eq_true rfl) ⟨(Nat.le_of_ble_eq_true rfl), (Nat.le_of_ble_eq_true rfl)⟩ d_V_remember_90 (z_pc (pc' := 93) rfl ?_)
      refine z_aload_n C d_V_remember_93 rfl (z_pc (pc' := 94) rfl ?_)
      obtain ⟨x49, h50, hf⟩ := zbind hf
      refine z_getr C fl_V_42 rfl h50 d_V_remember_94 (z_pc (pc' := 97) rfl ?_)
      refine z_aload C d_V_remember_97 rfl (z_pc (pc' := 99) rfl ?_)
      obtain ⟨M52, h51, hf⟩ := zbind hf
      refine z_callV C [zv n0 x1] [] kv_V_174 (c_Mt_insert D n0 l h51) (e_Mt_insert h51) ⟨(Nat.le_of_ble_eq_true rfl), (Nat.le_of_ble_eq_true rfl)⟩ (Nat.le_of_ble_eq_true rfl) ⟨(Nat.le_of_ble_eq_true rfl), (Nat.le_of_ble_eq_true rfl)⟩ d_V_remember_99 (z_pc (pc' := 102) rfl ?_)
      exact z_vret C hr (Nat.le_of_ble_eq_true rfl) (Nat.le_of_ble_eq_true rfl) d_V_remember_102 hf
  · have hf := zpos c3 hf
    obtain ⟨x53, M56, h54, hf⟩ := zb2_inv hf
    refine z_newO C (ci := 1) 7 rfl rfl kl_V_65 kn_E kt_E h54 (Nat.le_of_ble_eq_true rfl) (Nat.le_of_ble_eq_true rfl) d_V_remember_11 (fun g55 => (z_pc (pc' := 14) rfl ?_))
    refine z_dupr C d_V_remember_14 (z_pc (pc' := 15) rfl ?_)
    obtain ⟨M58, h57, hf⟩ := zbind hf
    refine z_callI C [] [zv n0 x53] g55 ki_V_149 (c_E_init D n0 l g55 h57) ⟨(Nat.le_of_ble_eq_true rfl), (Nat.le_of_ble_eq_true rfl)⟩ (Nat.le_of_ble_eq_true rfl) ⟨(Nat.le_of_ble_eq_true rfl), (Nat.le_of_ble_eq_true rfl)⟩ d_V_remember_15 (z_pc (pc' := 18) rfl ?_)
    refine z_astore C d_V_remember_18 (by decide) (z_pl (pc' := 20) (L' := [some (zv n0 a0), some (zv n0 a1), some (zi a2), some (zi a3), some (zv n0 x53)]) rfl rfl ?_)
    refine z_goto (tgt := 34) C d_V_remember_20 (by decide) ?_
    refine z_aload C d_V_remember_34 rfl (z_pc (pc' := 36) rfl ?_)
    refine z_aload_n C d_V_remember_36 rfl (z_pc (pc' := 37) rfl ?_)
    obtain ⟨x59, h60, hf⟩ := zbind hf
    refine z_getr C fl_V_153 rfl h60 d_V_remember_37 (z_pc (pc' := 40) rfl ?_)
    refine z_iload_n C d_V_remember_40 rfl (z_pc (pc' := 41) rfl ?_)
    obtain ⟨x61, h62, hf⟩ := zbind hf
    refine z_iald C h62 d_V_remember_41 (z_pc (pc' := 42) rfl ?_)
    refine z_bipush C d_V_remember_42 (by decide) (z_pc (pc' := 44) rfl ?_)
    refine z_irem C (by decide) d_V_remember_44 (z_pc (pc' := 45) rfl ?_)
    obtain ⟨M63, h64, hf⟩ := zbind hf
    refine z_puti C fp_V_156 (by decide) rfl h64 d_V_remember_45 (z_pc (pc' := 48) rfl ?_)
    refine z_aload C d_V_remember_48 rfl (z_pc (pc' := 50) rfl ?_)
    refine z_aload_n C d_V_remember_50 rfl (z_pc (pc' := 51) rfl ?_)
    obtain ⟨x65, h66, hf⟩ := zbind hf
    refine z_getr C fl_V_153 rfl h66 d_V_remember_51 (z_pc (pc' := 54) rfl ?_)
    refine z_iload_n C d_V_remember_54 rfl (z_pc (pc' := 55) rfl ?_)
    obtain ⟨x67, h68, hf⟩ := zbind hf
    refine z_iald C h68 d_V_remember_55 (z_pc (pc' := 56) rfl ?_)
    refine z_bipush C d_V_remember_56 (by decide) (z_pc (pc' := 58) rfl ?_)
    refine z_icmp_lt (tgt := 65) C d_V_remember_58 (by decide) (fun c69 => ?_) (fun c69 => z_pc (pc' := 61) rfl ?_)
    · have hf := zpos c69 hf
      refine z_iconst C d_V_remember_65 (z_pc (pc' := 66) rfl ?_)
      obtain ⟨M70, h71, hf⟩ := zbind hf
      refine z_putz C fp_V_159 (by decide) rfl h71 d_V_remember_66 (z_pc (pc' := 69) rfl ?_)
      refine z_aload C d_V_remember_69 rfl (z_pc (pc' := 71) rfl ?_)
      refine z_iload_n C d_V_remember_71 rfl (z_pc (pc' := 72) rfl ?_)
      obtain ⟨M72, h73, hf⟩ := zbind hf
      refine z_puti C fp_V_163 (by decide) rfl h73 d_V_remember_72 (z_pc (pc' := 75) rfl ?_)
      refine z_aload C d_V_remember_75 rfl (z_pc (pc' := 77) rfl ?_)
      refine z_aload_n C d_V_remember_77 rfl (z_pc (pc' := 78) rfl ?_)
      obtain ⟨x74, h75, hf⟩ := zbind hf
      refine z_getr C fl_V_164 rfl h75 d_V_remember_78 (z_pc (pc' := 81) rfl ?_)
      refine z_iload_n C d_V_remember_81 rfl (z_pc (pc' := 82) rfl ?_)
      obtain ⟨x76, h77, hf⟩ := zbind hf
      refine z_iald C h77 d_V_remember_82 (z_pc (pc' := 83) rfl ?_)
      obtain ⟨M78, h79, hf⟩ := zbind hf
      refine z_puti C fp_V_167 (by decide) rfl h79 d_V_remember_83 (z_pc (pc' := 86) rfl ?_)
      refine z_aload C d_V_remember_86 rfl (z_pc (pc' := 88) rfl ?_)
      refine z_aload_n C d_V_remember_88 rfl (z_pc (pc' := 89) rfl ?_)
      refine z_iload_n C d_V_remember_89 rfl (z_pc (pc' := 90) rfl ?_)
      obtain ⟨M81, h80, hf⟩ := zbind hf
      refine z_callV C [zv n0 a1, zi a2] [] kv_V_170 (c_E_settle D n0 l h80) (e_E_settle h80) ⟨(Nat.le_of_ble_eq_true rfl), (Nat.le_of_ble_eq_true rfl)⟩ (Nat.le_of_ble_eq_true rfl) ⟨(Nat.le_of_ble_eq_true rfl), (Nat.le_of_ble_eq_true rfl)⟩ d_V_remember_90 (z_pc (pc' := 93) rfl ?_)
      refine z_aload_n C d_V_remember_93 rfl (z_pc (pc' := 94) rfl ?_)
      obtain ⟨x82, h83, hf⟩ := zbind hf
      refine z_getr C fl_V_42 rfl h83 d_V_remember_94 (z_pc (pc' := 97) rfl ?_)
      refine z_aload C d_V_remember_97 rfl (z_pc (pc' := 99) rfl ?_)
      obtain ⟨M85, h84, hf⟩ := zbind hf
      refine z_callV C [zv n0 x53] [] kv_V_174 (c_Mt_insert D n0 l h84) (e_Mt_insert h84) ⟨(Nat.le_of_ble_eq_true rfl), (Nat.le_of_ble_eq_true rfl)⟩ (Nat.le_of_ble_eq_true rfl) ⟨(Nat.le_of_ble_eq_true rfl), (Nat.le_of_ble_eq_true rfl)⟩ d_V_remember_99 (z_pc (pc' := 102) rfl ?_)
      exact z_vret C hr (Nat.le_of_ble_eq_true rfl) (Nat.le_of_ble_eq_true rfl) d_V_remember_102 hf
    · have hf := zneg c69 hf
      refine z_iconst C d_V_remember_61 (z_pc (pc' := 62) rfl ?_)
      refine z_goto (tgt := 66) C d_V_remember_62 (by decide) ?_
      obtain ⟨M86, h87, hf⟩ := zbind hf
      refine z_putz C fp_V_159 (by decide) rfl h87 d_V_remember_66 (z_pc (pc' := 69) rfl ?_)
      refine z_aload C d_V_remember_69 rfl (z_pc (pc' := 71) rfl ?_)
      refine z_iload_n C d_V_remember_71 rfl (z_pc (pc' := 72) rfl ?_)
      obtain ⟨M88, h89, hf⟩ := zbind hf
      refine z_puti C fp_V_163 (by decide) rfl h89 d_V_remember_72 (z_pc (pc' := 75) rfl ?_)
      refine z_aload C d_V_remember_75 rfl (z_pc (pc' := 77) rfl ?_)
      refine z_aload_n C d_V_remember_77 rfl (z_pc (pc' := 78) rfl ?_)
      obtain ⟨x90, h91, hf⟩ := zbind hf
      refine z_getr C fl_V_164 rfl h91 d_V_remember_78 (z_pc (pc' := 81) rfl ?_)
      refine z_iload_n C d_V_remember_81 rfl (z_pc (pc' := 82) rfl ?_)
      obtain ⟨x92, h93, hf⟩ := zbind hf
      refine z_iald C h93 d_V_remember_82 (z_pc (pc' := 83) rfl ?_)
      obtain ⟨M94, h95, hf⟩ := zbind hf
      refine z_puti C fp_V_167 (by decide) rfl h95 d_V_remember_83 (z_pc (pc' := 86) rfl ?_)
      refine z_aload C d_V_remember_86 rfl (z_pc (pc' := 88) rfl ?_)
      refine z_aload_n C d_V_remember_88 rfl (z_pc (pc' := 89) rfl ?_)
      refine z_iload_n C d_V_remember_89 rfl (z_pc (pc' := 90) rfl ?_)
      obtain ⟨M97, h96, hf⟩ := zbind hf
      refine z_callV C [zv n0 a1, zi a2] [] kv_V_170 (c_E_settle D n0 l h96) (e_E_settle h96) ⟨(Nat.le_of_ble_eq_true rfl), (Nat.le_of_ble_eq_true rfl)⟩ (Nat.le_of_ble_eq_true rfl) ⟨(Nat.le_of_ble_eq_true rfl), (Nat.le_of_ble_eq_true rfl)⟩ d_V_remember_90 (z_pc (pc' := 93) rfl ?_)
      refine z_aload_n C d_V_remember_93 rfl (z_pc (pc' := 94) rfl ?_)
      obtain ⟨x98, h99, hf⟩ := zbind hf
      refine z_getr C fl_V_42 rfl h99 d_V_remember_94 (z_pc (pc' := 97) rfl ?_)
      refine z_aload C d_V_remember_97 rfl (z_pc (pc' := 99) rfl ?_)
      obtain ⟨M101, h100, hf⟩ := zbind hf
      refine z_callV C [zv n0 x53] [] kv_V_174 (c_Mt_insert D n0 l h100) (e_Mt_insert h100) ⟨(Nat.le_of_ble_eq_true rfl), (Nat.le_of_ble_eq_true rfl)⟩ (Nat.le_of_ble_eq_true rfl) ⟨(Nat.le_of_ble_eq_true rfl), (Nat.le_of_ble_eq_true rfl)⟩ d_V_remember_99 (z_pc (pc' := 102) rfl ?_)
      exact z_vret C hr (Nat.le_of_ble_eq_true rfl) (Nat.le_of_ble_eq_true rfl) d_V_remember_102 hf
set_option maxHeartbeats 4000000 in
set_option maxRecDepth 100000 in
theorem w_V_commit_L82 {D : va_G} {n0 : Nat} {l : Launch} {p : Program} {e : Env} {s : State} {m : MethodId} {args : Array Value} {below : List Frame} {meth : Method} {c : Code} {B Bs : Nat} {a0 : Nat} {a1 : Int} {a2 : Nat} {r : Int} {M' : zHp} {κ : zHp → Option (Int × zHp)} (C : zC D n0 p s m meth c b_V_commit 6 "LayerVault") (hr : meth.sig.returnType = (some .int)) (hB : B ≤ 744) (hBs : Bs ≤ 4481)
    (hκ : ∀ (M1 : zHp), κ M1 = some (r, M') → zZ D n0 p l e { frames := 7, cells := 744, slots := 4481, locals := 163 } s m args below meth c 6 B Bs (MQ below (zQc D n0 (some (zi r)) M') args s 744 4481 (fun q => n0 ≤ q)) 177 [some (zv n0 a0), some (zi a1), none, none, none, none] [] M1) :
    ∀ (n cells slots : Nat), cells + n * 2 ≤ B → slots + n * 10 ≤ Bs → ∀ (v3 : Int) (M : zHp), f_V_commit_L82 κ a0 a1 a2 n v3 M = some (r, M') → zZ D n0 p l e { frames := 7, cells := 744, slots := 4481, locals := 163 } s m args below meth c 6 cells slots (MQ below (zQc D n0 (some (zi r)) M') args s 744 4481 (fun q => n0 ≤ q)) 82 [some (zv n0 a0), some (zi a1), some (zv n0 a2), some (zi v3), none, none] [] M := by
  intro n
  induction n with
  | zero =>
    intro cells slots hb1 hb2 v3 M hf
    exact absurd hf (by unfold f_V_commit_L82; simp)
  | succ n ih =>
    intro cells slots hb1 hb2 v3 M hf
    unfold f_V_commit_L82 at hf
    refine z_iload_n C d_V_commit_82 rfl (z_pc (pc' := 83) rfl ?_)
    refine z_iload_n C d_V_commit_83 rfl (z_pc (pc' := 84) rfl ?_)
    refine z_icmp_ge (tgt := 177) C d_V_commit_84 (by decide) (fun c22 => ?_) (fun c22 => z_pc (pc' := 87) rfl ?_)
    · have hf := zpos c22 hf
      exact z_widen (by omega) (by omega) (z_sub2 (hκ _ hf) (And.intro rfl (And.intro rfl trivial)))
    · have hf := zneg c22 hf
      refine z_aload_n C d_V_commit_87 rfl (z_pc (pc' := 88) rfl ?_)
      obtain ⟨x23, h24, hf⟩ := zbind hf
      refine z_getr C fl_V_33 rfl h24 d_V_commit_88 (z_pc (pc' := 91) rfl ?_)
      refine z_iload_n C d_V_commit_91 rfl (z_pc (pc' := 92) rfl ?_)
      obtain ⟨x25, h26, hf⟩ := zbind hf
      refine z_iald C h26 d_V_commit_92 (z_pc (pc' := 93) rfl ?_)
      refine z_if_ge (tgt := 100) C d_V_commit_93 (by decide) (fun c27 => ?_) (fun c27 => z_pc (pc' := 96) rfl ?_)
      · have hf := zpos c27 hf
        refine z_iconst C d_V_commit_100 (z_pc (pc' := 101) rfl ?_)
        refine z_istore C d_V_commit_101 (by decide) (z_pl (pc' := 103) (L' := [some (zv n0 a0), some (zi a1), some (zv n0 a2), some (zi v3), some (zi 0), none]) rfl rfl ?_)
        refine z_aload_n C d_V_commit_103 rfl (z_pc (pc' := 104) rfl ?_)
        refine z_aload_n C d_V_commit_104 rfl (z_pc (pc' := 105) rfl ?_)
        obtain ⟨x28, h29, hf⟩ := zbind hf
        refine z_getr C fl_V_26 rfl h29 d_V_commit_105 (z_pc (pc' := 108) rfl ?_)
        refine z_iload_n C d_V_commit_108 rfl (z_pc (pc' := 109) rfl ?_)
        obtain ⟨x30, h31, hf⟩ := zbind hf
        refine z_iald C h31 d_V_commit_109 (z_pc (pc' := 110) rfl ?_)
        refine z_iload C d_V_commit_110 rfl (z_pc (pc' := 112) rfl ?_)
        obtain ⟨x34, M33, h32, hf⟩ := zb2_inv hf
        refine z_callS C [zi x30, zi 0] [zv n0 a2] ks_V_134 (c_V_code D n0 l h32) ⟨(Nat.le_of_ble_eq_true rfl), (Nat.le_of_ble_eq_true rfl)⟩ (Nat.le_of_ble_eq_true rfl) ⟨(by show cells + 0 ≤ 744; omega), (by show slots + 0 ≤ 4481; omega)⟩ d_V_commit_112 (z_pc (pc' := 115) rfl ?_)
        refine z_aload_n C d_V_commit_115 rfl (z_pc (pc' := 116) rfl ?_)
        obtain ⟨x35, h36, hf⟩ := zbind hf
        refine z_getr C fl_V_30 rfl h36 d_V_commit_116 (z_pc (pc' := 119) rfl ?_)
        refine z_iload_n C d_V_commit_119 rfl (z_pc (pc' := 120) rfl ?_)
        obtain ⟨x37, h38, hf⟩ := zbind hf
        refine z_iald C h38 d_V_commit_120 (z_pc (pc' := 121) rfl ?_)
        refine z_aload_n C d_V_commit_121 rfl (z_pc (pc' := 122) rfl ?_)
        obtain ⟨x39, h40, hf⟩ := zbind hf
        refine z_getr C fl_V_33 rfl h40 d_V_commit_122 (z_pc (pc' := 125) rfl ?_)
        refine z_iload_n C d_V_commit_125 rfl (z_pc (pc' := 126) rfl ?_)
        obtain ⟨x41, h42, hf⟩ := zbind hf
        refine z_iald C h42 d_V_commit_126 (z_pc (pc' := 127) rfl ?_)
        refine z_if_le (tgt := 144) C d_V_commit_127 (by decide) (fun c43 => ?_) (fun c43 => z_pc (pc' := 130) rfl ?_)
        · have hf := zpos c43 hf
          refine z_iconst C d_V_commit_144 (z_pc (pc' := 145) rfl ?_)
          obtain ⟨x46, M45, h44, hf⟩ := zb2_inv hf
          refine z_callV C [zi x34, zi x37, zi (-1)] [] kv_V_131 (c_S_write D n0 l h44) (e_S_write h44) ⟨(Nat.le_of_ble_eq_true rfl), (Nat.le_of_ble_eq_true rfl)⟩ (Nat.le_of_ble_eq_true rfl) ⟨(by show cells + 0 ≤ 744; omega), (by show slots + 0 ≤ 4481; omega)⟩ d_V_commit_145 (z_pc (pc' := 148) rfl ?_)
          refine z_istore C d_V_commit_148 (by decide) (z_pl (pc' := 150) (L' := [some (zv n0 a0), some (zi a1), some (zv n0 a2), some (zi v3), some (zi 0), some (zi x46)]) rfl rfl ?_)
          refine z_aload_n C d_V_commit_150 rfl (z_pc (pc' := 151) rfl ?_)
          refine z_dupr C d_V_commit_151 (z_pc (pc' := 152) rfl ?_)
          obtain ⟨x47, h48, hf⟩ := zbind hf
          refine z_geti C fl_V_97 h48 d_V_commit_152 (z_pc (pc' := 155) rfl ?_)
          refine z_iconst C d_V_commit_155 (z_pc (pc' := 156) rfl ?_)
          refine z_iadd C d_V_commit_156 (z_pc (pc' := 157) rfl ?_)
          obtain ⟨M49, h50, hf⟩ := zbind hf
          refine z_puti C fp_V_97 (by decide) rfl h50 d_V_commit_157 (z_pc (pc' := 160) rfl ?_)
          refine z_aload_n C d_V_commit_160 rfl (z_pc (pc' := 161) rfl ?_)
          refine z_aload_n C d_V_commit_161 rfl (z_pc (pc' := 162) rfl ?_)
          refine z_iload C d_V_commit_162 rfl (z_pc (pc' := 164) rfl ?_)
          refine z_aload_n C d_V_commit_164 rfl (z_pc (pc' := 165) rfl ?_)
          obtain ⟨x51, h52, hf⟩ := zbind hf
          refine z_geti C fl_V_97 h52 d_V_commit_165 (z_pc (pc' := 168) rfl ?_)
          obtain ⟨M54, h53, hf⟩ := zbind hf
          refine z_callV C [zv n0 a2, zi x46, zi x51] [] kv_V_141 (c_V_remember D n0 l h53) (e_V_remember h53) ⟨(Nat.le_of_ble_eq_true rfl), (Nat.le_of_ble_eq_true rfl)⟩ (Nat.le_of_ble_eq_true rfl) ⟨(by show cells + 2 ≤ 744; omega), (by show slots + 10 ≤ 4481; omega)⟩ d_V_commit_168 (z_pc (pc' := 171) rfl ?_)
          refine z_iinc C d_V_commit_171 rfl (by decide) (z_pl (pc' := 174) (L' := [some (zv n0 a0), some (zi a1), some (zv n0 a2), some (zi (zadd v3 1)), some (zi 0), some (zi x46)]) rfl rfl ?_)
          refine z_goto (tgt := 82) C d_V_commit_174 (by decide) ?_
          exact z_widen (k := cells + 2) (n := slots + 10) (by omega) (by omega) (z_sub2 (ih (cells + 2) (slots + 10) (by omega) (by omega) _ _ hf) (And.intro rfl (And.intro rfl (And.intro rfl (And.intro rfl trivial)))))
        · have hf := zneg c43 hf
          refine z_aload_n C d_V_commit_130 rfl (z_pc (pc' := 131) rfl ?_)
          obtain ⟨x55, h56, hf⟩ := zbind hf
          refine z_geti C fl_V_138 h56 d_V_commit_131 (z_pc (pc' := 134) rfl ?_)
          refine z_aload_n C d_V_commit_134 rfl (z_pc (pc' := 135) rfl ?_)
          obtain ⟨x57, h58, hf⟩ := zbind hf
          refine z_getr C fl_V_33 rfl h58 d_V_commit_135 (z_pc (pc' := 138) rfl ?_)
          refine z_iload_n C d_V_commit_138 rfl (z_pc (pc' := 139) rfl ?_)
          obtain ⟨x59, h60, hf⟩ := zbind hf
          refine z_iald C h60 d_V_commit_139 (z_pc (pc' := 140) rfl ?_)
          refine z_iadd C d_V_commit_140 (z_pc (pc' := 141) rfl ?_)
          refine z_goto (tgt := 145) C d_V_commit_141 (by decide) ?_
          obtain ⟨x63, M62, h61, hf⟩ := zb2_inv hf
          refine z_callV C [zi x34, zi x37, zi (zadd x55 x59)] [] kv_V_131 (c_S_write D n0 l h61) (e_S_write h61) ⟨(Nat.le_of_ble_eq_true rfl), (Nat.le_of_ble_eq_true rfl)⟩ (Nat.le_of_ble_eq_true rfl) ⟨(by show cells + 0 ≤ 744; omega), (by show slots + 0 ≤ 4481; omega)⟩ d_V_commit_145 (z_pc (pc' := 148) rfl ?_)
          refine z_istore C d_V_commit_148 (by decide) (z_pl (pc' := 150) (L' := [some (zv n0 a0), some (zi a1), some (zv n0 a2), some (zi v3), some (zi 0), some (zi x63)]) rfl rfl ?_)
          refine z_aload_n C d_V_commit_150 rfl (z_pc (pc' := 151) rfl ?_)
          refine z_dupr C d_V_commit_151 (z_pc (pc' := 152) rfl ?_)
          obtain ⟨x64, h65, hf⟩ := zbind hf
          refine z_geti C fl_V_97 h65 d_V_commit_152 (z_pc (pc' := 155) rfl ?_)
          refine z_iconst C d_V_commit_155 (z_pc (pc' := 156) rfl ?_)
          refine z_iadd C d_V_commit_156 (z_pc (pc' := 157) rfl ?_)
          obtain ⟨M66, h67, hf⟩ := zbind hf
          refine z_puti C fp_V_97 (by decide) rfl h67 d_V_commit_157 (z_pc (pc' := 160) rfl ?_)
          refine z_aload_n C d_V_commit_160 rfl (z_pc (pc' := 161) rfl ?_)
          refine z_aload_n C d_V_commit_161 rfl (z_pc (pc' := 162) rfl ?_)
          refine z_iload C d_V_commit_162 rfl (z_pc (pc' := 164) rfl ?_)
          refine z_aload_n C d_V_commit_164 rfl (z_pc (pc' := 165) rfl ?_)
          obtain ⟨x68, h69, hf⟩ := zbind hf
          refine z_geti C fl_V_97 h69 d_V_commit_165 (z_pc (pc' := 168) rfl ?_)
          obtain ⟨M71, h70, hf⟩ := zbind hf
          refine z_callV C [zv n0 a2, zi x63, zi x68] [] kv_V_141 (c_V_remember D n0 l h70) (e_V_remember h70) ⟨(Nat.le_of_ble_eq_true rfl), (Nat.le_of_ble_eq_true rfl)⟩ (Nat.le_of_ble_eq_true rfl) ⟨(by show cells + 2 ≤ 744; omega), (by show slots + 10 ≤ 4481; omega)⟩ d_V_commit_168 (z_pc (pc' := 171) rfl ?_)
          refine z_iinc C d_V_commit_171 rfl (by decide) (z_pl (pc' := 174) (L' := [some (zv n0 a0), some (zi a1), some (zv n0 a2), some (zi (zadd v3 1)), some (zi 0), some (zi x63)]) rfl rfl ?_)
          refine z_goto (tgt := 82) C d_V_commit_174 (by decide) ?_
          exact z_widen (k := cells + 2) (n := slots + 10) (by omega) (by omega) (z_sub2 (ih (cells + 2) (slots + 10) (by omega) (by omega) _ _ hf) (And.intro rfl (And.intro rfl (And.intro rfl (And.intro rfl trivial)))))
      · have hf := zneg c27 hf
        refine z_iconst C d_V_commit_96 (z_pc (pc' := 97) rfl ?_)
        refine z_goto (tgt := 101) C d_V_commit_97 (by decide) ?_
        refine z_istore C d_V_commit_101 (by decide) (z_pl (pc' := 103) (L' := [some (zv n0 a0), some (zi a1), some (zv n0 a2), some (zi v3), some (zi 1), none]) rfl rfl ?_)
        refine z_aload_n C d_V_commit_103 rfl (z_pc (pc' := 104) rfl ?_)
        refine z_aload_n C d_V_commit_104 rfl (z_pc (pc' := 105) rfl ?_)
        obtain ⟨x72, h73, hf⟩ := zbind hf
        refine z_getr C fl_V_26 rfl h73 d_V_commit_105 (z_pc (pc' := 108) rfl ?_)
        refine z_iload_n C d_V_commit_108 rfl (z_pc (pc' := 109) rfl ?_)
        obtain ⟨x74, h75, hf⟩ := zbind hf
        refine z_iald C h75 d_V_commit_109 (z_pc (pc' := 110) rfl ?_)
        refine z_iload C d_V_commit_110 rfl (z_pc (pc' := 112) rfl ?_)
        obtain ⟨x78, M77, h76, hf⟩ := zb2_inv hf
        refine z_callS C [zi x74, zi 1] [zv n0 a2] ks_V_134 (c_V_code D n0 l h76) ⟨(Nat.le_of_ble_eq_true rfl), (Nat.le_of_ble_eq_true rfl)⟩ (Nat.le_of_ble_eq_true rfl) ⟨(by show cells + 0 ≤ 744; omega), (by show slots + 0 ≤ 4481; omega)⟩ d_V_commit_112 (z_pc (pc' := 115) rfl ?_)
        refine z_aload_n C d_V_commit_115 rfl (z_pc (pc' := 116) rfl ?_)
        obtain ⟨x79, h80, hf⟩ := zbind hf
        refine z_getr C fl_V_30 rfl h80 d_V_commit_116 (z_pc (pc' := 119) rfl ?_)
        refine z_iload_n C d_V_commit_119 rfl (z_pc (pc' := 120) rfl ?_)
        obtain ⟨x81, h82, hf⟩ := zbind hf
        refine z_iald C h82 d_V_commit_120 (z_pc (pc' := 121) rfl ?_)
        refine z_aload_n C d_V_commit_121 rfl (z_pc (pc' := 122) rfl ?_)
        obtain ⟨x83, h84, hf⟩ := zbind hf
        refine z_getr C fl_V_33 rfl h84 d_V_commit_122 (z_pc (pc' := 125) rfl ?_)
        refine z_iload_n C d_V_commit_125 rfl (z_pc (pc' := 126) rfl ?_)
        obtain ⟨x85, h86, hf⟩ := zbind hf
        refine z_iald C h86 d_V_commit_126 (z_pc (pc' := 127) rfl ?_)
        refine z_if_le (tgt := 144) C d_V_commit_127 (by decide) (fun c87 => ?_) (fun c87 => z_pc (pc' := 130) rfl ?_)
        · have hf := zpos c87 hf
          refine z_iconst C d_V_commit_144 (z_pc (pc' := 145) rfl ?_)
          obtain ⟨x90, M89, h88, hf⟩ := zb2_inv hf
          refine z_callV C [zi x78, zi x81, zi (-1)] [] kv_V_131 (c_S_write D n0 l h88) (e_S_write h88) ⟨(Nat.le_of_ble_eq_true rfl), (Nat.le_of_ble_eq_true rfl)⟩ (Nat.le_of_ble_eq_true rfl) ⟨(by show cells + 0 ≤ 744; omega), (by show slots + 0 ≤ 4481; omega)⟩ d_V_commit_145 (z_pc (pc' := 148) rfl ?_)
          refine z_istore C d_V_commit_148 (by decide) (z_pl (pc' := 150) (L' := [some (zv n0 a0), some (zi a1), some (zv n0 a2), some (zi v3), some (zi 1), some (zi x90)]) rfl rfl ?_)
          refine z_aload_n C d_V_commit_150 rfl (z_pc (pc' := 151) rfl ?_)
          refine z_dupr C d_V_commit_151 (z_pc (pc' := 152) rfl ?_)
          obtain ⟨x91, h92, hf⟩ := zbind hf
          refine z_geti C fl_V_97 h92 d_V_commit_152 (z_pc (pc' := 155) rfl ?_)
          refine z_iconst C d_V_commit_155 (z_pc (pc' := 156) rfl ?_)
          refine z_iadd C d_V_commit_156 (z_pc (pc' := 157) rfl ?_)
          obtain ⟨M93, h94, hf⟩ := zbind hf
          refine z_puti C fp_V_97 (by decide) rfl h94 d_V_commit_157 (z_pc (pc' := 160) rfl ?_)
          refine z_aload_n C d_V_commit_160 rfl (z_pc (pc' := 161) rfl ?_)
          refine z_aload_n C d_V_commit_161 rfl (z_pc (pc' := 162) rfl ?_)
          refine z_iload C d_V_commit_162 rfl (z_pc (pc' := 164) rfl ?_)
          refine z_aload_n C d_V_commit_164 rfl (z_pc (pc' := 165) rfl ?_)
          obtain ⟨x95, h96, hf⟩ := zbind hf
          refine z_geti C fl_V_97 h96 d_V_commit_165 (z_pc (pc' := 168) rfl ?_)
          obtain ⟨M98, h97, hf⟩ := zbind hf
          refine z_callV C [zv n0 a2, zi x90, zi x95] [] kv_V_141 (c_V_remember D n0 l h97) (e_V_remember h97) ⟨(Nat.le_of_ble_eq_true rfl), (Nat.le_of_ble_eq_true rfl)⟩ (Nat.le_of_ble_eq_true rfl) ⟨(by show cells + 2 ≤ 744; omega), (by show slots + 10 ≤ 4481; omega)⟩ d_V_commit_168 (z_pc (pc' := 171) rfl ?_)
          refine z_iinc C d_V_commit_171 rfl (by decide) (z_pl (pc' := 174) (L' := [some (zv n0 a0), some (zi a1), some (zv n0 a2), some (zi (zadd v3 1)), some (zi 1), some (zi x90)]) rfl rfl ?_)
          refine z_goto (tgt := 82) C d_V_commit_174 (by decide) ?_
          exact z_widen (k := cells + 2) (n := slots + 10) (by omega) (by omega) (z_sub2 (ih (cells + 2) (slots + 10) (by omega) (by omega) _ _ hf) (And.intro rfl (And.intro rfl (And.intro rfl (And.intro rfl trivial)))))
        · have hf := zneg c87 hf
          refine z_aload_n C d_V_commit_130 rfl (z_pc (pc' := 131) rfl ?_)
          obtain ⟨x99, h100, hf⟩ := zbind hf
          refine z_geti C fl_V_138 h100 d_V_commit_131 (z_pc (pc' := 134) rfl ?_)
          refine z_aload_n C d_V_commit_134 rfl (z_pc (pc' := 135) rfl ?_)
          obtain ⟨x101, h102, hf⟩ := zbind hf
          refine z_getr C fl_V_33 rfl h102 d_V_commit_135 (z_pc (pc' := 138) rfl ?_)
          refine z_iload_n C d_V_commit_138 rfl (z_pc (pc' := 139) rfl ?_)
          obtain ⟨x103, h104, hf⟩ := zbind hf
          refine z_iald C h104 d_V_commit_139 (z_pc (pc' := 140) rfl ?_)
          refine z_iadd C d_V_commit_140 (z_pc (pc' := 141) rfl ?_)
          refine z_goto (tgt := 145) C d_V_commit_141 (by decide) ?_
          obtain ⟨x107, M106, h105, hf⟩ := zb2_inv hf
          refine z_callV C [zi x78, zi x81, zi (zadd x99 x103)] [] kv_V_131 (c_S_write D n0 l h105) (e_S_write h105) ⟨(Nat.le_of_ble_eq_true rfl), (Nat.le_of_ble_eq_true rfl)⟩ (Nat.le_of_ble_eq_true rfl) ⟨(by show cells + 0 ≤ 744; omega), (by show slots + 0 ≤ 4481; omega)⟩ d_V_commit_145 (z_pc (pc' := 148) rfl ?_)
          refine z_istore C d_V_commit_148 (by decide) (z_pl (pc' := 150) (L' := [some (zv n0 a0), some (zi a1), some (zv n0 a2), some (zi v3), some (zi 1), some (zi x107)]) rfl rfl ?_)
          refine z_aload_n C d_V_commit_150 rfl (z_pc (pc' := 151) rfl ?_)
          refine z_dupr C d_V_commit_151 (z_pc (pc' := 152) rfl ?_)
          obtain ⟨x108, h109, hf⟩ := zbind hf
          refine z_geti C fl_V_97 h109 d_V_commit_152 (z_pc (pc' := 155) rfl ?_)
          refine z_iconst C d_V_commit_155 (z_pc (pc' := 156) rfl ?_)
          refine z_iadd C d_V_commit_156 (z_pc (pc' := 157) rfl ?_)
          obtain ⟨M110, h111, hf⟩ := zbind hf
          refine z_puti C fp_V_97 (by decide) rfl h111 d_V_commit_157 (z_pc (pc' := 160) rfl ?_)
          refine z_aload_n C d_V_commit_160 rfl (z_pc (pc' := 161) rfl ?_)
          refine z_aload_n C d_V_commit_161 rfl (z_pc (pc' := 162) rfl ?_)
          refine z_iload C d_V_commit_162 rfl (z_pc (pc' := 164) rfl ?_)
          refine z_aload_n C d_V_commit_164 rfl (z_pc (pc' := 165) rfl ?_)
          obtain ⟨x112, h113, hf⟩ := zbind hf
          refine z_geti C fl_V_97 h113 d_V_commit_165 (z_pc (pc' := 168) rfl ?_)
          obtain ⟨M115, h114, hf⟩ := zbind hf
          refine z_callV C [zv n0 a2, zi x107, zi x112] [] kv_V_141 (c_V_remember D n0 l h114) (e_V_remember h114) ⟨(Nat.le_of_ble_eq_true rfl), (Nat.le_of_ble_eq_true rfl)⟩ (Nat.le_of_ble_eq_true rfl) ⟨(by show cells + 2 ≤ 744; omega), (by show slots + 10 ≤ 4481; omega)⟩ d_V_commit_168 (z_pc (pc' := 171) rfl ?_)
          refine z_iinc C d_V_commit_171 rfl (by decide) (z_pl (pc' := 174) (L' := [some (zv n0 a0), some (zi a1), some (zv n0 a2), some (zi (zadd v3 1)), some (zi 1), some (zi x107)]) rfl rfl ?_)
          refine z_goto (tgt := 82) C d_V_commit_174 (by decide) ?_
          exact z_widen (k := cells + 2) (n := slots + 10) (by omega) (by omega) (z_sub2 (ih (cells + 2) (slots + 10) (by omega) (by omega) _ _ hf) (And.intro rfl (And.intro rfl (And.intro rfl (And.intro rfl trivial)))))
theorem e_V_commit {a0 : Nat} {M : zHp} {q : Int × zHp} (hf : f_V_commit a0 M = some q) : zk M a0 = 0 := by
  unfold f_V_commit at hf
  exact (zif hf).1
set_option maxHeartbeats 4000000 in
set_option maxRecDepth 100000 in
theorem c_V_commit (D : va_G) (n0 : Nat) (l : Launch) {a0 : Nat} {M : zHp} {r : Int} {M' : zHp} (hf : f_V_commit a0 M = some (r, M')) : zM D n0 l y_V_commit b_V_commit 6 (some .int) 7 163 744 4481 [zv n0 a0] M (some (zi r)) M' := by
  refine zM.ofZ (by decide) (zcr zcn) (Nat.le_of_ble_eq_true rfl) ?_
  intro p e s m below meth c C hr hnm
  have C : zC D n0 p s m meth c b_V_commit 6 "LayerVault" := C
  refine z_eqL (L' := [some (zv n0 a0), none, none, none, none, none]) rfl ?_
  unfold f_V_commit at hf
  have hf := (zif hf).2
  refine z_aload_n C d_V_commit_0 rfl (z_pc (pc' := 1) rfl ?_)
  obtain ⟨x1, h2, hf⟩ := zbind hf
  refine z_geti C fl_V_109 h2 d_V_commit_1 (z_pc (pc' := 4) rfl ?_)
  refine z_istore_n C d_V_commit_4 (by decide) (z_pl (pc' := 5) (L' := [some (zv n0 a0), some (zi x1), none, none, none, none]) rfl rfl ?_)
  refine z_iload_n C d_V_commit_5 rfl (z_pc (pc' := 6) rfl ?_)
  refine z_if_ne (tgt := 12) C d_V_commit_6 (by decide) (fun c3 => ?_) (fun c3 => z_pc (pc' := 9) rfl ?_)
  · have hf := zneg c3 hf
    refine z_aload_n C d_V_commit_12 rfl (z_pc (pc' := 13) rfl ?_)
    obtain ⟨x4, h5, hf⟩ := zbind hf
    refine z_getr C fl_V_16 rfl h5 d_V_commit_13 (z_pc (pc' := 16) rfl ?_)
    obtain ⟨x6, h7, hf⟩ := zbind hf
    refine z_geti C fl_V_79 h7 d_V_commit_16 (z_pc (pc' := 19) rfl ?_)
    refine z_iload_n C d_V_commit_19 rfl (z_pc (pc' := 20) rfl ?_)
    refine z_iadd C d_V_commit_20 (z_pc (pc' := 21) rfl ?_)
    refine z_iconst C d_V_commit_21 (z_pc (pc' := 22) rfl ?_)
    refine z_iadd C d_V_commit_22 (z_pc (pc' := 23) rfl ?_)
    refine z_bipush C d_V_commit_23 (by decide) (z_pc (pc' := 25) rfl ?_)
    refine z_icmp_le (tgt := 40) C d_V_commit_25 (by decide) (fun c8 => ?_) (fun c8 => z_pc (pc' := 28) rfl ?_)
    · have hf := zpos c8 hf
      refine z_aload_n C d_V_commit_40 rfl (z_pc (pc' := 41) rfl ?_)
      obtain ⟨x9, h10, hf⟩ := zbind hf
      refine z_getr C fl_V_42 rfl h10 d_V_commit_41 (z_pc (pc' := 44) rfl ?_)
      obtain ⟨x11, h12, hf⟩ := zbind hf
      refine z_geti C fl_V_120 h12 d_V_commit_44 (z_pc (pc' := 47) rfl ?_)
      refine z_iload_n C d_V_commit_47 rfl (z_pc (pc' := 48) rfl ?_)
      refine z_iadd C d_V_commit_48 (z_pc (pc' := 49) rfl ?_)
      refine z_bipush C d_V_commit_49 (by decide) (z_pc (pc' := 51) rfl ?_)
      refine z_icmp_le (tgt := 59) C d_V_commit_51 (by decide) (fun c13 => ?_) (fun c13 => z_pc (pc' := 54) rfl ?_)
      · have hf := zpos c13 hf
        refine z_aload_n C d_V_commit_59 rfl (z_pc (pc' := 60) rfl ?_)
        refine z_iload_n C d_V_commit_60 rfl (z_pc (pc' := 61) rfl ?_)
        refine z_iconst C d_V_commit_61 (z_pc (pc' := 62) rfl ?_)
        refine z_iadd C d_V_commit_62 (z_pc (pc' := 63) rfl ?_)
        obtain ⟨x16, M15, h14, hf⟩ := zb2_inv hf
        refine z_callV C [zi (zadd x1 1)] [] kv_V_127 (c_V_room D n0 l h14) (e_V_room h14) ⟨(Nat.le_of_ble_eq_true rfl), (Nat.le_of_ble_eq_true rfl)⟩ (Nat.le_of_ble_eq_true rfl) ⟨(Nat.le_of_ble_eq_true rfl), (Nat.le_of_ble_eq_true rfl)⟩ d_V_commit_63 (z_pc (pc' := 66) rfl ?_)
        refine z_astore_n C d_V_commit_66 (by decide) (z_pl (pc' := 67) (L' := [some (zv n0 a0), some (zi x1), some (zv n0 x16), none, none, none]) rfl rfl ?_)
        refine z_aload_n C d_V_commit_67 rfl (z_pc (pc' := 68) rfl ?_)
        refine z_iload_n C d_V_commit_68 rfl (z_pc (pc' := 69) rfl ?_)
        refine z_aload_n C d_V_commit_69 rfl (z_pc (pc' := 70) rfl ?_)
        obtain ⟨x17, h18, hf⟩ := zbind hf
        refine z_geti C fl_V_97 h18 d_V_commit_70 (z_pc (pc' := 73) rfl ?_)
        refine z_iconst C d_V_commit_73 (z_pc (pc' := 74) rfl ?_)
        refine z_iadd C d_V_commit_74 (z_pc (pc' := 75) rfl ?_)
        refine z_iconst C d_V_commit_75 (z_pc (pc' := 76) rfl ?_)
        obtain ⟨x21, M20, h19, hf⟩ := zb2_inv hf
        refine z_callV C [zi x1, zi (zadd x17 1), zi 0] [] kv_V_131 (c_S_write D n0 l h19) (e_S_write h19) ⟨(Nat.le_of_ble_eq_true rfl), (Nat.le_of_ble_eq_true rfl)⟩ (Nat.le_of_ble_eq_true rfl) ⟨(Nat.le_of_ble_eq_true rfl), (Nat.le_of_ble_eq_true rfl)⟩ d_V_commit_76 (z_pc (pc' := 79) rfl ?_)
        refine z_popi C d_V_commit_79 (z_pc (pc' := 80) rfl ?_)
        refine z_iconst C d_V_commit_80 (z_pc (pc' := 81) rfl ?_)
        refine z_istore_n C d_V_commit_81 (by decide) (z_pl (pc' := 82) (L' := [some (zv n0 a0), some (zi x1), some (zv n0 x16), some (zi 0), none, none]) rfl rfl ?_)
        refine z_sub2 (w_V_commit_L82 (B := 18) (Bs := 125) C hr (Nat.le_of_ble_eq_true rfl) (Nat.le_of_ble_eq_true rfl) ?_ zf_V_commit_L82 _ _ (by decide) (by decide) _ _ hf) (And.intro rfl (And.intro rfl (And.intro rfl (And.intro rfl trivial))))
        intro M116 hf
        refine z_aload_n C d_V_commit_177 rfl (z_pc (pc' := 178) rfl ?_)
        refine z_iconst C d_V_commit_178 (z_pc (pc' := 179) rfl ?_)
        obtain ⟨M117, h118, hf⟩ := zbind hf
        refine z_puti C fp_V_109 (by decide) rfl h118 d_V_commit_179 (z_pc (pc' := 182) rfl ?_)
        refine z_aload_n C d_V_commit_182 rfl (z_pc (pc' := 183) rfl ?_)
        refine z_dupr C d_V_commit_183 (z_pc (pc' := 184) rfl ?_)
        obtain ⟨x119, h120, hf⟩ := zbind hf
        refine z_geti C fl_V_103 h120 d_V_commit_184 (z_pc (pc' := 187) rfl ?_)
        refine z_iconst C d_V_commit_187 (z_pc (pc' := 188) rfl ?_)
        refine z_iadd C d_V_commit_188 (z_pc (pc' := 189) rfl ?_)
        obtain ⟨M121, h122, hf⟩ := zbind hf
        refine z_puti C fp_V_103 (by decide) rfl h122 d_V_commit_189 (z_pc (pc' := 192) rfl ?_)
        refine z_iload_n C d_V_commit_192 rfl (z_pc (pc' := 193) rfl ?_)
        exact z_iret C hr (Nat.le_of_ble_eq_true rfl) (Nat.le_of_ble_eq_true rfl) d_V_commit_193 hf
      · have hf := zneg c13 hf
        refine z_aload_n C d_V_commit_54 rfl (z_pc (pc' := 55) rfl ?_)
        obtain ⟨x125, M124, h123, hf⟩ := zb2_inv hf
        refine z_callV C [] [] kv_V_123 (c_V_flush D n0 l h123) (e_V_flush h123) ⟨(Nat.le_of_ble_eq_true rfl), (Nat.le_of_ble_eq_true rfl)⟩ (Nat.le_of_ble_eq_true rfl) ⟨(Nat.le_of_ble_eq_true rfl), (Nat.le_of_ble_eq_true rfl)⟩ d_V_commit_55 (z_pc (pc' := 58) rfl ?_)
        refine z_popi C d_V_commit_58 (z_pc (pc' := 59) rfl ?_)
        refine z_aload_n C d_V_commit_59 rfl (z_pc (pc' := 60) rfl ?_)
        refine z_iload_n C d_V_commit_60 rfl (z_pc (pc' := 61) rfl ?_)
        refine z_iconst C d_V_commit_61 (z_pc (pc' := 62) rfl ?_)
        refine z_iadd C d_V_commit_62 (z_pc (pc' := 63) rfl ?_)
        obtain ⟨x128, M127, h126, hf⟩ := zb2_inv hf
        refine z_callV C [zi (zadd x1 1)] [] kv_V_127 (c_V_room D n0 l h126) (e_V_room h126) ⟨(Nat.le_of_ble_eq_true rfl), (Nat.le_of_ble_eq_true rfl)⟩ (Nat.le_of_ble_eq_true rfl) ⟨(Nat.le_of_ble_eq_true rfl), (Nat.le_of_ble_eq_true rfl)⟩ d_V_commit_63 (z_pc (pc' := 66) rfl ?_)
        refine z_astore_n C d_V_commit_66 (by decide) (z_pl (pc' := 67) (L' := [some (zv n0 a0), some (zi x1), some (zv n0 x128), none, none, none]) rfl rfl ?_)
        refine z_aload_n C d_V_commit_67 rfl (z_pc (pc' := 68) rfl ?_)
        refine z_iload_n C d_V_commit_68 rfl (z_pc (pc' := 69) rfl ?_)
        refine z_aload_n C d_V_commit_69 rfl (z_pc (pc' := 70) rfl ?_)
        obtain ⟨x129, h130, hf⟩ := zbind hf
        refine z_geti C fl_V_97 h130 d_V_commit_70 (z_pc (pc' := 73) rfl ?_)
        refine z_iconst C d_V_commit_73 (z_pc (pc' := 74) rfl ?_)
        refine z_iadd C d_V_commit_74 (z_pc (pc' := 75) rfl ?_)
        refine z_iconst C d_V_commit_75 (z_pc (pc' := 76) rfl ?_)
        obtain ⟨x133, M132, h131, hf⟩ := zb2_inv hf
        refine z_callV C [zi x1, zi (zadd x129 1), zi 0] [] kv_V_131 (c_S_write D n0 l h131) (e_S_write h131) ⟨(Nat.le_of_ble_eq_true rfl), (Nat.le_of_ble_eq_true rfl)⟩ (Nat.le_of_ble_eq_true rfl) ⟨(Nat.le_of_ble_eq_true rfl), (Nat.le_of_ble_eq_true rfl)⟩ d_V_commit_76 (z_pc (pc' := 79) rfl ?_)
        refine z_popi C d_V_commit_79 (z_pc (pc' := 80) rfl ?_)
        refine z_iconst C d_V_commit_80 (z_pc (pc' := 81) rfl ?_)
        refine z_istore_n C d_V_commit_81 (by decide) (z_pl (pc' := 82) (L' := [some (zv n0 a0), some (zi x1), some (zv n0 x128), some (zi 0), none, none]) rfl rfl ?_)
        refine z_sub2 (w_V_commit_L82 (B := 744) (Bs := 4481) C hr (Nat.le_of_ble_eq_true rfl) (Nat.le_of_ble_eq_true rfl) ?_ zf_V_commit_L82 _ _ (by decide) (by decide) _ _ hf) (And.intro rfl (And.intro rfl (And.intro rfl (And.intro rfl trivial))))
        intro M134 hf
        refine z_aload_n C d_V_commit_177 rfl (z_pc (pc' := 178) rfl ?_)
        refine z_iconst C d_V_commit_178 (z_pc (pc' := 179) rfl ?_)
        obtain ⟨M135, h136, hf⟩ := zbind hf
        refine z_puti C fp_V_109 (by decide) rfl h136 d_V_commit_179 (z_pc (pc' := 182) rfl ?_)
        refine z_aload_n C d_V_commit_182 rfl (z_pc (pc' := 183) rfl ?_)
        refine z_dupr C d_V_commit_183 (z_pc (pc' := 184) rfl ?_)
        obtain ⟨x137, h138, hf⟩ := zbind hf
        refine z_geti C fl_V_103 h138 d_V_commit_184 (z_pc (pc' := 187) rfl ?_)
        refine z_iconst C d_V_commit_187 (z_pc (pc' := 188) rfl ?_)
        refine z_iadd C d_V_commit_188 (z_pc (pc' := 189) rfl ?_)
        obtain ⟨M139, h140, hf⟩ := zbind hf
        refine z_puti C fp_V_103 (by decide) rfl h140 d_V_commit_189 (z_pc (pc' := 192) rfl ?_)
        refine z_iload_n C d_V_commit_192 rfl (z_pc (pc' := 193) rfl ?_)
        exact z_iret C hr (Nat.le_of_ble_eq_true rfl) (Nat.le_of_ble_eq_true rfl) d_V_commit_193 hf
    · have hf := zneg c8 hf
      refine z_aload_n C d_V_commit_28 rfl (z_pc (pc' := 29) rfl ?_)
      obtain ⟨x141, h142, hf⟩ := zbind hf
      refine z_geti C fl_V_19 h142 d_V_commit_29 (z_pc (pc' := 32) rfl ?_)
      refine z_bipush C d_V_commit_32 (by decide) (z_pc (pc' := 34) rfl ?_)
      refine z_icmp_ne (tgt := 40) C d_V_commit_34 (by decide) (fun c143 => ?_) (fun c143 => z_pc (pc' := 37) rfl ?_)
      · have hf := zneg c143 hf
        refine z_aload_n C d_V_commit_40 rfl (z_pc (pc' := 41) rfl ?_)
        obtain ⟨x144, h145, hf⟩ := zbind hf
        refine z_getr C fl_V_42 rfl h145 d_V_commit_41 (z_pc (pc' := 44) rfl ?_)
        obtain ⟨x146, h147, hf⟩ := zbind hf
        refine z_geti C fl_V_120 h147 d_V_commit_44 (z_pc (pc' := 47) rfl ?_)
        refine z_iload_n C d_V_commit_47 rfl (z_pc (pc' := 48) rfl ?_)
        refine z_iadd C d_V_commit_48 (z_pc (pc' := 49) rfl ?_)
        refine z_bipush C d_V_commit_49 (by decide) (z_pc (pc' := 51) rfl ?_)
        refine z_icmp_le (tgt := 59) C d_V_commit_51 (by decide) (fun c148 => ?_) (fun c148 => z_pc (pc' := 54) rfl ?_)
        · have hf := zpos c148 hf
          refine z_aload_n C d_V_commit_59 rfl (z_pc (pc' := 60) rfl ?_)
          refine z_iload_n C d_V_commit_60 rfl (z_pc (pc' := 61) rfl ?_)
          refine z_iconst C d_V_commit_61 (z_pc (pc' := 62) rfl ?_)
          refine z_iadd C d_V_commit_62 (z_pc (pc' := 63) rfl ?_)
          obtain ⟨x151, M150, h149, hf⟩ := zb2_inv hf
          refine z_callV C [zi (zadd x1 1)] [] kv_V_127 (c_V_room D n0 l h149) (e_V_room h149) ⟨(Nat.le_of_ble_eq_true rfl), (Nat.le_of_ble_eq_true rfl)⟩ (Nat.le_of_ble_eq_true rfl) ⟨(Nat.le_of_ble_eq_true rfl), (Nat.le_of_ble_eq_true rfl)⟩ d_V_commit_63 (z_pc (pc' := 66) rfl ?_)
          refine z_astore_n C d_V_commit_66 (by decide) (z_pl (pc' := 67) (L' := [some (zv n0 a0), some (zi x1), some (zv n0 x151), none, none, none]) rfl rfl ?_)
          refine z_aload_n C d_V_commit_67 rfl (z_pc (pc' := 68) rfl ?_)
          refine z_iload_n C d_V_commit_68 rfl (z_pc (pc' := 69) rfl ?_)
          refine z_aload_n C d_V_commit_69 rfl (z_pc (pc' := 70) rfl ?_)
          obtain ⟨x152, h153, hf⟩ := zbind hf
          refine z_geti C fl_V_97 h153 d_V_commit_70 (z_pc (pc' := 73) rfl ?_)
          refine z_iconst C d_V_commit_73 (z_pc (pc' := 74) rfl ?_)
          refine z_iadd C d_V_commit_74 (z_pc (pc' := 75) rfl ?_)
          refine z_iconst C d_V_commit_75 (z_pc (pc' := 76) rfl ?_)
          obtain ⟨x156, M155, h154, hf⟩ := zb2_inv hf
          refine z_callV C [zi x1, zi (zadd x152 1), zi 0] [] kv_V_131 (c_S_write D n0 l h154) (e_S_write h154) ⟨(Nat.le_of_ble_eq_true rfl), (Nat.le_of_ble_eq_true rfl)⟩ (Nat.le_of_ble_eq_true rfl) ⟨(Nat.le_of_ble_eq_true rfl), (Nat.le_of_ble_eq_true rfl)⟩ d_V_commit_76 (z_pc (pc' := 79) rfl ?_)
          refine z_popi C d_V_commit_79 (z_pc (pc' := 80) rfl ?_)
          refine z_iconst C d_V_commit_80 (z_pc (pc' := 81) rfl ?_)
          refine z_istore_n C d_V_commit_81 (by decide) (z_pl (pc' := 82) (L' := [some (zv n0 a0), some (zi x1), some (zv n0 x151), some (zi 0), none, none]) rfl rfl ?_)
          refine z_sub2 (w_V_commit_L82 (B := 18) (Bs := 125) C hr (Nat.le_of_ble_eq_true rfl) (Nat.le_of_ble_eq_true rfl) ?_ zf_V_commit_L82 _ _ (by decide) (by decide) _ _ hf) (And.intro rfl (And.intro rfl (And.intro rfl (And.intro rfl trivial))))
          intro M157 hf
          refine z_aload_n C d_V_commit_177 rfl (z_pc (pc' := 178) rfl ?_)
          refine z_iconst C d_V_commit_178 (z_pc (pc' := 179) rfl ?_)
          obtain ⟨M158, h159, hf⟩ := zbind hf
          refine z_puti C fp_V_109 (by decide) rfl h159 d_V_commit_179 (z_pc (pc' := 182) rfl ?_)
          refine z_aload_n C d_V_commit_182 rfl (z_pc (pc' := 183) rfl ?_)
          refine z_dupr C d_V_commit_183 (z_pc (pc' := 184) rfl ?_)
          obtain ⟨x160, h161, hf⟩ := zbind hf
          refine z_geti C fl_V_103 h161 d_V_commit_184 (z_pc (pc' := 187) rfl ?_)
          refine z_iconst C d_V_commit_187 (z_pc (pc' := 188) rfl ?_)
          refine z_iadd C d_V_commit_188 (z_pc (pc' := 189) rfl ?_)
          obtain ⟨M162, h163, hf⟩ := zbind hf
          refine z_puti C fp_V_103 (by decide) rfl h163 d_V_commit_189 (z_pc (pc' := 192) rfl ?_)
          refine z_iload_n C d_V_commit_192 rfl (z_pc (pc' := 193) rfl ?_)
          exact z_iret C hr (Nat.le_of_ble_eq_true rfl) (Nat.le_of_ble_eq_true rfl) d_V_commit_193 hf
        · have hf := zneg c148 hf
          refine z_aload_n C d_V_commit_54 rfl (z_pc (pc' := 55) rfl ?_)
          obtain ⟨x166, M165, h164, hf⟩ := zb2_inv hf
          refine z_callV C [] [] kv_V_123 (c_V_flush D n0 l h164) (e_V_flush h164) ⟨(Nat.le_of_ble_eq_true rfl), (Nat.le_of_ble_eq_true rfl)⟩ (Nat.le_of_ble_eq_true rfl) ⟨(Nat.le_of_ble_eq_true rfl), (Nat.le_of_ble_eq_true rfl)⟩ d_V_commit_55 (z_pc (pc' := 58) rfl ?_)
          refine z_popi C d_V_commit_58 (z_pc (pc' := 59) rfl ?_)
          refine z_aload_n C d_V_commit_59 rfl (z_pc (pc' := 60) rfl ?_)
          refine z_iload_n C d_V_commit_60 rfl (z_pc (pc' := 61) rfl ?_)
          refine z_iconst C d_V_commit_61 (z_pc (pc' := 62) rfl ?_)
          refine z_iadd C d_V_commit_62 (z_pc (pc' := 63) rfl ?_)
          obtain ⟨x169, M168, h167, hf⟩ := zb2_inv hf
          refine z_callV C [zi (zadd x1 1)] [] kv_V_127 (c_V_room D n0 l h167) (e_V_room h167) ⟨(Nat.le_of_ble_eq_true rfl), (Nat.le_of_ble_eq_true rfl)⟩ (Nat.le_of_ble_eq_true rfl) ⟨(Nat.le_of_ble_eq_true rfl), (Nat.le_of_ble_eq_true rfl)⟩ d_V_commit_63 (z_pc (pc' := 66) rfl ?_)
          refine z_astore_n C d_V_commit_66 (by decide) (z_pl (pc' := 67) (L' := [some (zv n0 a0), some (zi x1), some (zv n0 x169), none, none, none]) rfl rfl ?_)
          refine z_aload_n C d_V_commit_67 rfl (z_pc (pc' := 68) rfl ?_)
          refine z_iload_n C d_V_commit_68 rfl (z_pc (pc' := 69) rfl ?_)
          refine z_aload_n C d_V_commit_69 rfl (z_pc (pc' := 70) rfl ?_)
          obtain ⟨x170, h171, hf⟩ := zbind hf
          refine z_geti C fl_V_97 h171 d_V_commit_70 (z_pc (pc' := 73) rfl ?_)
          refine z_iconst C d_V_commit_73 (z_pc (pc' := 74) rfl ?_)
          refine z_iadd C d_V_commit_74 (z_pc (pc' := 75) rfl ?_)
          refine z_iconst C d_V_commit_75 (z_pc (pc' := 76) rfl ?_)
          obtain ⟨x174, M173, h172, hf⟩ := zb2_inv hf
          refine z_callV C [zi x1, zi (zadd x170 1), zi 0] [] kv_V_131 (c_S_write D n0 l h172) (e_S_write h172) ⟨(Nat.le_of_ble_eq_true rfl), (Nat.le_of_ble_eq_true rfl)⟩ (Nat.le_of_ble_eq_true rfl) ⟨(Nat.le_of_ble_eq_true rfl), (Nat.le_of_ble_eq_true rfl)⟩ d_V_commit_76 (z_pc (pc' := 79) rfl ?_)
          refine z_popi C d_V_commit_79 (z_pc (pc' := 80) rfl ?_)
          refine z_iconst C d_V_commit_80 (z_pc (pc' := 81) rfl ?_)
          refine z_istore_n C d_V_commit_81 (by decide) (z_pl (pc' := 82) (L' := [some (zv n0 a0), some (zi x1), some (zv n0 x169), some (zi 0), none, none]) rfl rfl ?_)
          refine z_sub2 (w_V_commit_L82 (B := 744) (Bs := 4481) C hr (Nat.le_of_ble_eq_true rfl) (Nat.le_of_ble_eq_true rfl) ?_ zf_V_commit_L82 _ _ (by decide) (by decide) _ _ hf) (And.intro rfl (And.intro rfl (And.intro rfl (And.intro rfl trivial))))
          intro M175 hf
          refine z_aload_n C d_V_commit_177 rfl (z_pc (pc' := 178) rfl ?_)
          refine z_iconst C d_V_commit_178 (z_pc (pc' := 179) rfl ?_)
          obtain ⟨M176, h177, hf⟩ := zbind hf
          refine z_puti C fp_V_109 (by decide) rfl h177 d_V_commit_179 (z_pc (pc' := 182) rfl ?_)
          refine z_aload_n C d_V_commit_182 rfl (z_pc (pc' := 183) rfl ?_)
          refine z_dupr C d_V_commit_183 (z_pc (pc' := 184) rfl ?_)
          obtain ⟨x178, h179, hf⟩ := zbind hf
          refine z_geti C fl_V_103 h179 d_V_commit_184 (z_pc (pc' := 187) rfl ?_)
          refine z_iconst C d_V_commit_187 (z_pc (pc' := 188) rfl ?_)
          refine z_iadd C d_V_commit_188 (z_pc (pc' := 189) rfl ?_)
          obtain ⟨M180, h181, hf⟩ := zbind hf
          refine z_puti C fp_V_103 (by decide) rfl h181 d_V_commit_189 (z_pc (pc' := 192) rfl ?_)
          refine z_iload_n C d_V_commit_192 rfl (z_pc (pc' := 193) rfl ?_)
          exact z_iret C hr (Nat.le_of_ble_eq_true rfl) (Nat.le_of_ble_eq_true rfl) d_V_commit_193 hf
      · have hf := zpos c143 hf
        refine z_bipush C d_V_commit_37 (by decide) (z_pc (pc' := 39) rfl ?_)
        exact z_iret C hr (Nat.le_of_ble_eq_true rfl) (Nat.le_of_ble_eq_true rfl) d_V_commit_39 hf
  · have hf := zpos c3 hf
    refine z_bipush C d_V_commit_9 (by decide) (z_pc (pc' := 11) rfl ?_)
    exact z_iret C hr (Nat.le_of_ble_eq_true rfl) (Nat.le_of_ble_eq_true rfl) d_V_commit_11 hf
theorem e_V_merge {a0 : Nat} {a1 : Int} {M : zHp} {q : Int × zHp} (hf : f_V_merge a0 a1 M = some q) : zk M a0 = 0 := by
  unfold f_V_merge at hf
  exact (zif hf).1
set_option maxHeartbeats 4000000 in
set_option maxRecDepth 100000 in
theorem c_V_merge (D : va_G) (n0 : Nat) (l : Launch) {a0 : Nat} {a1 : Int} {M : zHp} {r : Int} {M' : zHp} (hf : f_V_merge a0 a1 M = some (r, M')) : zM D n0 l y_V_merge b_V_merge 2 (some .int) 6 138 724 4344 [zv n0 a0, zi a1] M (some (zi r)) M' := by
  refine zM.ofZ (by decide) (zcr (zci zcn)) (Nat.le_of_ble_eq_true rfl) ?_
  intro p e s m below meth c C hr hnm
  have C : zC D n0 p s m meth c b_V_merge 2 "LayerVault" := C
  refine z_eqL (L' := [some (zv n0 a0), some (zi a1)]) rfl ?_
  unfold f_V_merge at hf
  have hf := (zif hf).2
  refine z_iload_n C d_V_merge_0 rfl (z_pc (pc' := 1) rfl ?_)
  refine z_if_eq (tgt := 11) C d_V_merge_1 (by decide) (fun c1 => ?_) (fun c1 => z_pc (pc' := 4) rfl ?_)
  · have hf := zpos c1 hf
    refine z_aload_n C d_V_merge_11 rfl (z_pc (pc' := 12) rfl ?_)
    obtain ⟨x2, h3, hf⟩ := zbind hf
    refine z_getr C fl_V_48 rfl h3 d_V_merge_12 (z_pc (pc' := 15) rfl ?_)
    refine z_iload_n C d_V_merge_15 rfl (z_pc (pc' := 16) rfl ?_)
    obtain ⟨x4, h5, hf⟩ := zbind hf
    refine z_aald C (by decide) h5 d_V_merge_16 (z_pc (pc' := 17) rfl ?_)
    obtain ⟨x6, h7, hf⟩ := zbind hf
    refine z_geti C fl_V_213 h7 d_V_merge_17 (z_pc (pc' := 20) rfl ?_)
    refine z_if_ne (tgt := 28) C d_V_merge_20 (by decide) (fun c8 => ?_) (fun c8 => z_pc (pc' := 23) rfl ?_)
    · have hf := zneg c8 hf
      refine z_aload_n C d_V_merge_28 rfl (z_pc (pc' := 29) rfl ?_)
      refine z_iload_n C d_V_merge_29 rfl (z_pc (pc' := 30) rfl ?_)
      obtain ⟨x11, M10, h9, hf⟩ := zb2_inv hf
      refine z_callV C [zi a1] [] kv_V_263 (c_V_mergeFrom D n0 l h9) (e_V_mergeFrom h9) ⟨(Nat.le_of_ble_eq_true rfl), (Nat.le_of_ble_eq_true rfl)⟩ (Nat.le_of_ble_eq_true rfl) ⟨(Nat.le_of_ble_eq_true rfl), (Nat.le_of_ble_eq_true rfl)⟩ d_V_merge_30 (z_pc (pc' := 33) rfl ?_)
      exact z_iret C hr (Nat.le_of_ble_eq_true rfl) (Nat.le_of_ble_eq_true rfl) d_V_merge_33 hf
    · have hf := zpos c8 hf
      refine z_bipush C d_V_merge_23 (by decide) (z_pc (pc' := 25) rfl ?_)
      refine z_goto (tgt := 33) C d_V_merge_25 (by decide) ?_
      exact z_iret C hr (Nat.le_of_ble_eq_true rfl) (Nat.le_of_ble_eq_true rfl) d_V_merge_33 hf
  · have hf := zneg c1 hf
    refine z_iload_n C d_V_merge_4 rfl (z_pc (pc' := 5) rfl ?_)
    refine z_iconst C d_V_merge_5 (z_pc (pc' := 6) rfl ?_)
    refine z_icmp_eq (tgt := 11) C d_V_merge_6 (by decide) (fun c12 => ?_) (fun c12 => z_pc (pc' := 9) rfl ?_)
    · have hf := zpos c12 hf
      refine z_aload_n C d_V_merge_11 rfl (z_pc (pc' := 12) rfl ?_)
      obtain ⟨x13, h14, hf⟩ := zbind hf
      refine z_getr C fl_V_48 rfl h14 d_V_merge_12 (z_pc (pc' := 15) rfl ?_)
      refine z_iload_n C d_V_merge_15 rfl (z_pc (pc' := 16) rfl ?_)
      obtain ⟨x15, h16, hf⟩ := zbind hf
      refine z_aald C (by decide) h16 d_V_merge_16 (z_pc (pc' := 17) rfl ?_)
      obtain ⟨x17, h18, hf⟩ := zbind hf
      refine z_geti C fl_V_213 h18 d_V_merge_17 (z_pc (pc' := 20) rfl ?_)
      refine z_if_ne (tgt := 28) C d_V_merge_20 (by decide) (fun c19 => ?_) (fun c19 => z_pc (pc' := 23) rfl ?_)
      · have hf := zneg c19 hf
        refine z_aload_n C d_V_merge_28 rfl (z_pc (pc' := 29) rfl ?_)
        refine z_iload_n C d_V_merge_29 rfl (z_pc (pc' := 30) rfl ?_)
        obtain ⟨x22, M21, h20, hf⟩ := zb2_inv hf
        refine z_callV C [zi a1] [] kv_V_263 (c_V_mergeFrom D n0 l h20) (e_V_mergeFrom h20) ⟨(Nat.le_of_ble_eq_true rfl), (Nat.le_of_ble_eq_true rfl)⟩ (Nat.le_of_ble_eq_true rfl) ⟨(Nat.le_of_ble_eq_true rfl), (Nat.le_of_ble_eq_true rfl)⟩ d_V_merge_30 (z_pc (pc' := 33) rfl ?_)
        exact z_iret C hr (Nat.le_of_ble_eq_true rfl) (Nat.le_of_ble_eq_true rfl) d_V_merge_33 hf
      · have hf := zpos c19 hf
        refine z_bipush C d_V_merge_23 (by decide) (z_pc (pc' := 25) rfl ?_)
        refine z_goto (tgt := 33) C d_V_merge_25 (by decide) ?_
        exact z_iret C hr (Nat.le_of_ble_eq_true rfl) (Nat.le_of_ble_eq_true rfl) d_V_merge_33 hf
    · have hf := zneg c12 hf
      refine z_iconst C d_V_merge_9 (z_pc (pc' := 10) rfl ?_)
      exact z_iret C hr (Nat.le_of_ble_eq_true rfl) (Nat.le_of_ble_eq_true rfl) d_V_merge_10 hf
set_option maxHeartbeats 4000000 in
set_option maxRecDepth 100000 in
theorem w_V_owner_L41 {D : va_G} {n0 : Nat} {l : Launch} {p : Program} {e : Env} {s : State} {m : MethodId} {args : Array Value} {below : List Frame} {meth : Method} {c : Code} {a1 : Nat} {a2 : Int} {a3 : Nat} {a4 : Int} {a5 : Int} {a6 : Nat} {a7 : Int} {r : Nat} {M' : zHp} {κ : zHp → Option (Nat × zHp)} (C : zC D n0 p s m meth c b_V_owner 10 "LayerVault") (hr : meth.sig.returnType = (some (.object "LayerVault$Entry")))
    (hκ : ∀ (M1 : zHp), κ M1 = some (r, M') → zZ D n0 p l e { frames := 0, cells := 0, slots := 0, locals := 0 } s m args below meth c 10 0 0 (MQ below (zQc D n0 (some (zv n0 r)) M') args s 0 0 (fun q => n0 ≤ q)) 108 [none, some (zv n0 a1), some (zi a2), some (zv n0 a3), some (zi a4), some (zi a5), some (zv n0 a6), some (zi a7), none, none] [] M1) :
    ∀ (n : Nat) (v8 : Int) (M : zHp), f_V_owner_L41 κ a1 a2 a6 a7 n v8 M = some (r, M') → zZ D n0 p l e { frames := 0, cells := 0, slots := 0, locals := 0 } s m args below meth c 10 0 0 (MQ below (zQc D n0 (some (zv n0 r)) M') args s 0 0 (fun q => n0 ≤ q)) 41 [none, some (zv n0 a1), some (zi a2), some (zv n0 a3), some (zi a4), some (zi a5), some (zv n0 a6), some (zi a7), some (zi v8), none] [] M := by
  intro n
  induction n with
  | zero =>
    intro v8 M hf
    exact absurd hf (by unfold f_V_owner_L41; simp)
  | succ n ih =>
    intro v8 M hf
    unfold f_V_owner_L41 at hf
    refine z_iload C d_V_owner_41 rfl (z_pc (pc' := 43) rfl ?_)
    refine z_aload C d_V_owner_43 rfl (z_pc (pc' := 45) rfl ?_)
    obtain ⟨x11, h12, hf⟩ := zbind hf
    refine z_getr C fl_V_214 rfl h12 d_V_owner_45 (z_pc (pc' := 48) rfl ?_)
    refine z_iload C d_V_owner_48 rfl (z_pc (pc' := 50) rfl ?_)
    obtain ⟨x13, h14, hf⟩ := zbind hf
    refine z_aald C (by decide) h14 d_V_owner_50 (z_pc (pc' := 51) rfl ?_)
    obtain ⟨x15, h16, hf⟩ := zbind hf
    refine z_geti C fl_V_209 h16 d_V_owner_51 (z_pc (pc' := 54) rfl ?_)
    refine z_icmp_ge (tgt := 108) C d_V_owner_54 (by decide) (fun c17 => ?_) (fun c17 => z_pc (pc' := 57) rfl ?_)
    · have hf := zpos c17 hf
      exact z_sub2 (hκ _ hf) (And.intro rfl (And.intro rfl (And.intro rfl (And.intro rfl (And.intro rfl (And.intro rfl (And.intro rfl trivial)))))))
    · have hf := zneg c17 hf
      refine z_aload C d_V_owner_57 rfl (z_pc (pc' := 59) rfl ?_)
      obtain ⟨x18, h19, hf⟩ := zbind hf
      refine z_getr C fl_V_214 rfl h19 d_V_owner_59 (z_pc (pc' := 62) rfl ?_)
      refine z_iload C d_V_owner_62 rfl (z_pc (pc' := 64) rfl ?_)
      obtain ⟨x20, h21, hf⟩ := zbind hf
      refine z_aald C (by decide) h21 d_V_owner_64 (z_pc (pc' := 65) rfl ?_)
      obtain ⟨x22, h23, hf⟩ := zbind hf
      refine z_getr C fl_V_272 rfl h23 d_V_owner_65 (z_pc (pc' := 68) rfl ?_)
      refine z_iload C d_V_owner_68 rfl (z_pc (pc' := 70) rfl ?_)
      obtain ⟨x24, h25, hf⟩ := zbind hf
      refine z_aald C (by decide) h25 d_V_owner_70 (z_pc (pc' := 71) rfl ?_)
      refine z_astore C d_V_owner_71 (by decide) (z_pl (pc' := 73) (L' := [none, some (zv n0 a1), some (zi a2), some (zv n0 a3), some (zi a4), some (zi a5), some (zv n0 a6), some (zi a7), some (zi v8), some (zv n0 x24)]) rfl rfl ?_)
      refine z_aload C d_V_owner_73 rfl (z_pc (pc' := 75) rfl ?_)
      obtain ⟨x26, h27, hf⟩ := zbind hf
      refine z_getr C fl_V_275 rfl h27 d_V_owner_75 (z_pc (pc' := 78) rfl ?_)
      refine z_aload_n C d_V_owner_78 rfl (z_pc (pc' := 79) rfl ?_)
      refine z_acmp_ne (tgt := 102) C d_V_owner_79 (by decide) (fun c28 => ?_) (fun c28 => (z_pc (pc' := 82) rfl ?_))
      · have hf := zneg c28 hf
        refine z_iinc C d_V_owner_102 rfl (by decide) (z_pl (pc' := 105) (L' := [none, some (zv n0 a1), some (zi a2), some (zv n0 a3), some (zi a4), some (zi a5), some (zv n0 a6), some (zi a7), some (zi (zadd v8 1)), some (zv n0 x24)]) rfl rfl ?_)
        refine z_goto (tgt := 41) C d_V_owner_105 (by decide) ?_
        exact z_sub2 (ih _ _ hf) (And.intro rfl (And.intro rfl (And.intro rfl (And.intro rfl (And.intro rfl (And.intro rfl (And.intro rfl (And.intro rfl trivial))))))))
      · have hf := zpos c28 hf
        refine z_aload C d_V_owner_82 rfl (z_pc (pc' := 84) rfl ?_)
        obtain ⟨x29, h30, hf⟩ := zbind hf
        refine z_geti C fl_V_278 h30 d_V_owner_84 (z_pc (pc' := 87) rfl ?_)
        refine z_iload_n C d_V_owner_87 rfl (z_pc (pc' := 88) rfl ?_)
        refine z_icmp_ne (tgt := 102) C d_V_owner_88 (by decide) (fun c31 => ?_) (fun c31 => z_pc (pc' := 91) rfl ?_)
        · have hf := zneg c31 hf
          refine z_iinc C d_V_owner_102 rfl (by decide) (z_pl (pc' := 105) (L' := [none, some (zv n0 a1), some (zi a2), some (zv n0 a3), some (zi a4), some (zi a5), some (zv n0 a6), some (zi a7), some (zi (zadd v8 1)), some (zv n0 x24)]) rfl rfl ?_)
          refine z_goto (tgt := 41) C d_V_owner_105 (by decide) ?_
          exact z_sub2 (ih _ _ hf) (And.intro rfl (And.intro rfl (And.intro rfl (And.intro rfl (And.intro rfl (And.intro rfl (And.intro rfl (And.intro rfl trivial))))))))
        · have hf := zpos c31 hf
          refine z_aload C d_V_owner_91 rfl (z_pc (pc' := 93) rfl ?_)
          obtain ⟨x32, h33, hf⟩ := zbind hf
          refine z_geti C fl_V_159 h33 d_V_owner_93 (z_pc (pc' := 96) rfl ?_)
          refine z_if_ne (tgt := 102) C d_V_owner_96 (by decide) (fun c34 => ?_) (fun c34 => z_pc (pc' := 99) rfl ?_)
          · have hf := zneg c34 hf
            refine z_iinc C d_V_owner_102 rfl (by decide) (z_pl (pc' := 105) (L' := [none, some (zv n0 a1), some (zi a2), some (zv n0 a3), some (zi a4), some (zi a5), some (zv n0 a6), some (zi a7), some (zi (zadd v8 1)), some (zv n0 x24)]) rfl rfl ?_)
            refine z_goto (tgt := 41) C d_V_owner_105 (by decide) ?_
            exact z_sub2 (ih _ _ hf) (And.intro rfl (And.intro rfl (And.intro rfl (And.intro rfl (And.intro rfl (And.intro rfl (And.intro rfl (And.intro rfl trivial))))))))
          · have hf := zpos c34 hf
            refine z_aload C d_V_owner_99 rfl (z_pc (pc' := 101) rfl ?_)
            exact z_aret C hr (Or.inl ⟨_, rfl⟩) (Nat.le_of_ble_eq_true rfl) (Nat.le_of_ble_eq_true rfl) d_V_owner_101 hf
set_option maxHeartbeats 4000000 in
set_option maxRecDepth 100000 in
theorem w_V_owner_L28 {D : va_G} {n0 : Nat} {l : Launch} {p : Program} {e : Env} {s : State} {m : MethodId} {args : Array Value} {below : List Frame} {meth : Method} {c : Code} {a1 : Nat} {a2 : Int} {a3 : Nat} {a4 : Int} {a5 : Int} {a6 : Nat} {r : Nat} {M' : zHp} {κ : zHp → Option (Nat × zHp)} (C : zC D n0 p s m meth c b_V_owner 10 "LayerVault") (hr : meth.sig.returnType = (some (.object "LayerVault$Entry")))
    (hκ : ∀ (M1 : zHp), κ M1 = some (r, M') → zZ D n0 p l e { frames := 0, cells := 0, slots := 0, locals := 0 } s m args below meth c 10 0 0 (MQ below (zQc D n0 (some (zv n0 r)) M') args s 0 0 (fun q => n0 ≤ q)) 114 [none, some (zv n0 a1), some (zi a2), some (zv n0 a3), some (zi a4), some (zi a5), none, none, none, none] [] M1) :
    ∀ (n : Nat) (v7 : Int) (M : zHp), f_V_owner_L28 κ a1 a2 a6 n v7 M = some (r, M') → zZ D n0 p l e { frames := 0, cells := 0, slots := 0, locals := 0 } s m args below meth c 10 0 0 (MQ below (zQc D n0 (some (zv n0 r)) M') args s 0 0 (fun q => n0 ≤ q)) 28 [none, some (zv n0 a1), some (zi a2), some (zv n0 a3), some (zi a4), some (zi a5), some (zv n0 a6), some (zi v7), none, none] [] M := by
  intro n
  induction n with
  | zero =>
    intro v7 M hf
    exact absurd hf (by unfold f_V_owner_L28; simp)
  | succ n ih =>
    intro v7 M hf
    unfold f_V_owner_L28 at hf
    refine z_iload C d_V_owner_28 rfl (z_pc (pc' := 30) rfl ?_)
    refine z_aload C d_V_owner_30 rfl (z_pc (pc' := 32) rfl ?_)
    obtain ⟨x8, h9, hf⟩ := zbind hf
    refine z_geti C fl_V_213 h9 d_V_owner_32 (z_pc (pc' := 35) rfl ?_)
    refine z_icmp_ge (tgt := 114) C d_V_owner_35 (by decide) (fun c10 => ?_) (fun c10 => z_pc (pc' := 38) rfl ?_)
    · have hf := zpos c10 hf
      exact z_sub2 (hκ _ hf) (And.intro rfl (And.intro rfl (And.intro rfl (And.intro rfl (And.intro rfl trivial)))))
    · have hf := zneg c10 hf
      refine z_iconst C d_V_owner_38 (z_pc (pc' := 39) rfl ?_)
      refine z_istore C d_V_owner_39 (by decide) (z_pl (pc' := 41) (L' := [none, some (zv n0 a1), some (zi a2), some (zv n0 a3), some (zi a4), some (zi a5), some (zv n0 a6), some (zi v7), some (zi 0), none]) rfl rfl ?_)
      refine z_sub2 (w_V_owner_L41 C hr ?_ _ _ _ hf) (And.intro rfl (And.intro rfl (And.intro rfl (And.intro rfl (And.intro rfl (And.intro rfl (And.intro rfl (And.intro rfl trivial))))))))
      intro M35 hf
      refine z_iinc C d_V_owner_108 rfl (by decide) (z_pl (pc' := 111) (L' := [none, some (zv n0 a1), some (zi a2), some (zv n0 a3), some (zi a4), some (zi a5), some (zv n0 a6), some (zi (zadd v7 1)), none, none]) rfl rfl ?_)
      refine z_goto (tgt := 28) C d_V_owner_111 (by decide) ?_
      exact z_sub2 (ih _ _ hf) (And.intro rfl (And.intro rfl (And.intro rfl (And.intro rfl (And.intro rfl (And.intro rfl (And.intro rfl trivial)))))))
set_option maxHeartbeats 4000000 in
set_option maxRecDepth 100000 in
theorem w_V_owner_L12 {D : va_G} {n0 : Nat} {l : Launch} {p : Program} {e : Env} {s : State} {m : MethodId} {args : Array Value} {below : List Frame} {meth : Method} {c : Code} {a1 : Nat} {a2 : Int} {a3 : Nat} {a4 : Int} {r : Nat} {M' : zHp} {κ : zHp → Option (Nat × zHp)} (C : zC D n0 p s m meth c b_V_owner 10 "LayerVault") (hr : meth.sig.returnType = (some (.object "LayerVault$Entry")))
    (hκ : ∀ (M1 : zHp), κ M1 = some (r, M') → zZ D n0 p l e { frames := 0, cells := 0, slots := 0, locals := 0 } s m args below meth c 10 0 0 (MQ below (zQc D n0 (some (zv n0 r)) M') args s 0 0 (fun q => n0 ≤ q)) 120 [none, none, none, none, none, none, none, none, none, none] [] M1) :
    ∀ (n : Nat) (v5 : Int) (M : zHp), f_V_owner_L12 κ a1 a2 a3 a4 n v5 M = some (r, M') → zZ D n0 p l e { frames := 0, cells := 0, slots := 0, locals := 0 } s m args below meth c 10 0 0 (MQ below (zQc D n0 (some (zv n0 r)) M') args s 0 0 (fun q => n0 ≤ q)) 12 [none, some (zv n0 a1), some (zi a2), some (zv n0 a3), some (zi a4), some (zi v5), none, none, none, none] [] M := by
  intro n
  induction n with
  | zero =>
    intro v5 M hf
    exact absurd hf (by unfold f_V_owner_L12; simp)
  | succ n ih =>
    intro v5 M hf
    unfold f_V_owner_L12 at hf
    refine z_iload C d_V_owner_12 rfl (z_pc (pc' := 14) rfl ?_)
    refine z_iload C d_V_owner_14 rfl (z_pc (pc' := 16) rfl ?_)
    refine z_icmp_ge (tgt := 120) C d_V_owner_16 (by decide) (fun c5 => ?_) (fun c5 => z_pc (pc' := 19) rfl ?_)
    · have hf := zpos c5 hf
      exact z_sub2 (hκ _ hf) trivial
    · have hf := zneg c5 hf
      refine z_aload_n C d_V_owner_19 rfl (z_pc (pc' := 20) rfl ?_)
      refine z_iload C d_V_owner_20 rfl (z_pc (pc' := 22) rfl ?_)
      obtain ⟨x6, h7, hf⟩ := zbind hf
      refine z_aald C (by decide) h7 d_V_owner_22 (z_pc (pc' := 23) rfl ?_)
      refine z_astore C d_V_owner_23 (by decide) (z_pl (pc' := 25) (L' := [none, some (zv n0 a1), some (zi a2), some (zv n0 a3), some (zi a4), some (zi v5), some (zv n0 x6), none, none, none]) rfl rfl ?_)
      refine z_iconst C d_V_owner_25 (z_pc (pc' := 26) rfl ?_)
      refine z_istore C d_V_owner_26 (by decide) (z_pl (pc' := 28) (L' := [none, some (zv n0 a1), some (zi a2), some (zv n0 a3), some (zi a4), some (zi v5), some (zv n0 x6), some (zi 0), none, none]) rfl rfl ?_)
      refine z_sub2 (w_V_owner_L28 C hr ?_ _ _ _ hf) (And.intro rfl (And.intro rfl (And.intro rfl (And.intro rfl (And.intro rfl (And.intro rfl (And.intro rfl trivial)))))))
      intro M36 hf
      refine z_iinc C d_V_owner_114 rfl (by decide) (z_pl (pc' := 117) (L' := [none, some (zv n0 a1), some (zi a2), some (zv n0 a3), some (zi a4), some (zi (zadd v5 1)), none, none, none, none]) rfl rfl ?_)
      refine z_goto (tgt := 12) C d_V_owner_117 (by decide) ?_
      exact z_sub2 (ih _ _ hf) (And.intro rfl (And.intro rfl (And.intro rfl (And.intro rfl (And.intro rfl trivial)))))
theorem e_V_owner {a0 : Nat} {a1 : Nat} {a2 : Int} {M : zHp} {q : Nat × zHp} (hf : f_V_owner a0 a1 a2 M = some q) : zk M a0 = 0 := by
  unfold f_V_owner at hf
  exact (zif hf).1
set_option maxHeartbeats 4000000 in
set_option maxRecDepth 100000 in
theorem c_V_owner (D : va_G) (n0 : Nat) (l : Launch) {a0 : Nat} {a1 : Nat} {a2 : Int} {M : zHp} {r : Nat} {M' : zHp} (hf : f_V_owner a0 a1 a2 M = some (r, M')) : zM D n0 l y_V_owner b_V_owner 10 (some (.object "LayerVault$Entry")) 0 0 0 0 [zv n0 a0, zv n0 a1, zi a2] M (some (zv n0 r)) M' := by
  refine zM.ofZ (by decide) (zcr (zcr (zci zcn))) (Nat.le_of_ble_eq_true rfl) ?_
  intro p e s m below meth c C hr hnm
  have C : zC D n0 p s m meth c b_V_owner 10 "LayerVault" := C
  refine z_eqL (L' := [some (zv n0 a0), some (zv n0 a1), some (zi a2), none, none, none, none, none, none, none]) rfl ?_
  unfold f_V_owner at hf
  have hf := (zif hf).2
  refine z_aload_n C d_V_owner_0 rfl (z_pc (pc' := 1) rfl ?_)
  obtain ⟨x1, h2, hf⟩ := zbind hf
  refine z_getr C fl_V_48 rfl h2 d_V_owner_1 (z_pc (pc' := 4) rfl ?_)
  refine z_astore_n C d_V_owner_4 (by decide) (z_pl (pc' := 5) (L' := [some (zv n0 a0), some (zv n0 a1), some (zi a2), some (zv n0 x1), none, none, none, none, none, none]) rfl rfl ?_)
  refine z_aload_n C d_V_owner_5 rfl (z_pc (pc' := 6) rfl ?_)
  obtain ⟨x3, h4, hf⟩ := zbind hf
  refine z_alen C h4 d_V_owner_6 (z_pc (pc' := 7) rfl ?_)
  refine z_istore C d_V_owner_7 (by decide) (z_pl (pc' := 9) (L' := [some (zv n0 a0), some (zv n0 a1), some (zi a2), some (zv n0 x1), some (zi x3), none, none, none, none, none]) rfl rfl ?_)
  refine z_iconst C d_V_owner_9 (z_pc (pc' := 10) rfl ?_)
  refine z_istore C d_V_owner_10 (by decide) (z_pl (pc' := 12) (L' := [some (zv n0 a0), some (zv n0 a1), some (zi a2), some (zv n0 x1), some (zi x3), some (zi 0), none, none, none, none]) rfl rfl ?_)
  refine z_sub2 (w_V_owner_L12 C hr ?_ _ _ _ hf) (And.intro rfl (And.intro rfl (And.intro rfl (And.intro rfl (And.intro rfl trivial)))))
  intro M37 hf
  refine z_null C d_V_owner_120 (z_pc (pc' := 121) rfl ?_)
  exact z_aret C hr (Or.inl ⟨_, rfl⟩) (Nat.le_of_ble_eq_true rfl) (Nat.le_of_ble_eq_true rfl) d_V_owner_121 hf
set_option maxHeartbeats 4000000 in
set_option maxRecDepth 100000 in
theorem w_V_fits_L19 {D : va_G} {n0 : Nat} {l : Launch} {p : Program} {e : Env} {s : State} {m : MethodId} {args : Array Value} {below : List Frame} {meth : Method} {c : Code}  {r : Int} {M' : zHp} {κ : Int → zHp → Option (Int × zHp)} (C : zC D n0 p s m meth c b_V_fits 6 "LayerVault") (hr : meth.sig.returnType = (some .boolean))
    (hκ : ∀ (u3 : Int) (M1 : zHp), κ u3 M1 = some (r, M') → zZ D n0 p l e { frames := 1, cells := 0, slots := 0, locals := 21 } s m args below meth c 6 0 0 (MQ below (zQc D n0 (some (zi r)) M') args s 0 0 (fun q => n0 ≤ q)) 58 [none, none, none, some (zi u3), none, none] [] M1) :
    ∀ (n : Nat) (v2 : Int) (v3 : Int) (v4 : Int) (M : zHp), f_V_fits_L19 κ n v2 v3 v4 M = some (r, M') → zZ D n0 p l e { frames := 1, cells := 0, slots := 0, locals := 21 } s m args below meth c 6 0 0 (MQ below (zQc D n0 (some (zi r)) M') args s 0 0 (fun q => n0 ≤ q)) 19 [none, none, some (zi v2), some (zi v3), some (zi v4), none] [] M := by
  intro n
  induction n with
  | zero =>
    intro v2 v3 v4 M hf
    exact absurd hf (by unfold f_V_fits_L19; simp)
  | succ n ih =>
    intro v2 v3 v4 M hf
    unfold f_V_fits_L19 at hf
    refine z_iload C d_V_fits_19 rfl (z_pc (pc' := 21) rfl ?_)
    refine z_if_le (tgt := 58) C d_V_fits_21 (by decide) (fun c7 => ?_) (fun c7 => z_pc (pc' := 24) rfl ?_)
    · have hf := zpos c7 hf
      exact z_sub2 (hκ _ _ hf) (And.intro rfl trivial)
    · have hf := zneg c7 hf
      refine z_iconst C d_V_fits_24 (z_pc (pc' := 25) rfl ?_)
      refine z_iload C d_V_fits_25 rfl (z_pc (pc' := 27) rfl ?_)
      refine z_bipush C d_V_fits_27 (by decide) (z_pc (pc' := 29) rfl ?_)
      refine z_mmin C km_V_281 km_st_min km_ini km_code_min ⟨(Nat.le_of_ble_eq_true rfl), (Nat.le_of_ble_eq_true rfl)⟩ (Nat.le_of_ble_eq_true rfl) ⟨(Nat.le_of_ble_eq_true rfl), (Nat.le_of_ble_eq_true rfl)⟩ d_V_fits_29 (z_pc (pc' := 32) rfl ?_)
      refine z_iadd C d_V_fits_32 (z_pc (pc' := 33) rfl ?_)
      refine z_istore C d_V_fits_33 (by decide) (z_pl (pc' := 35) (L' := [none, none, some (zi v2), some (zi v3), some (zi v4), some (zi (zadd 1 (zmin v4 6)))]) rfl rfl ?_)
      refine z_iload C d_V_fits_35 rfl (z_pc (pc' := 37) rfl ?_)
      refine z_iload_n C d_V_fits_37 rfl (z_pc (pc' := 38) rfl ?_)
      refine z_icmp_le (tgt := 47) C d_V_fits_38 (by decide) (fun c8 => ?_) (fun c8 => z_pc (pc' := 41) rfl ?_)
      · have hf := zpos c8 hf
        refine z_iload_n C d_V_fits_47 rfl (z_pc (pc' := 48) rfl ?_)
        refine z_iload C d_V_fits_48 rfl (z_pc (pc' := 50) rfl ?_)
        refine z_isub C d_V_fits_50 (z_pc (pc' := 51) rfl ?_)
        refine z_istore_n C d_V_fits_51 (by decide) (z_pl (pc' := 52) (L' := [none, none, some (zi (zsub v2 (zadd 1 (zmin v4 6)))), some (zi v3), some (zi v4), some (zi (zadd 1 (zmin v4 6)))]) rfl rfl ?_)
        refine z_iinc C d_V_fits_52 rfl (by decide) (z_pl (pc' := 55) (L' := [none, none, some (zi (zsub v2 (zadd 1 (zmin v4 6)))), some (zi v3), some (zi (zadd v4 (-6))), some (zi (zadd 1 (zmin v4 6)))]) rfl rfl ?_)
        refine z_goto (tgt := 19) C d_V_fits_55 (by decide) ?_
        exact z_sub2 (ih _ _ _ _ hf) (And.intro rfl (And.intro rfl (And.intro rfl trivial)))
      · have hf := zneg c8 hf
        refine z_iinc C d_V_fits_41 rfl (by decide) (z_pl (pc' := 44) (L' := [none, none, some (zi v2), some (zi (zadd v3 1)), some (zi v4), some (zi (zadd 1 (zmin v4 6)))]) rfl rfl ?_)
        refine z_bipush C d_V_fits_44 (by decide) (z_pc (pc' := 46) rfl ?_)
        refine z_istore_n C d_V_fits_46 (by decide) (z_pl (pc' := 47) (L' := [none, none, some (zi 16), some (zi (zadd v3 1)), some (zi v4), some (zi (zadd 1 (zmin v4 6)))]) rfl rfl ?_)
        refine z_iload_n C d_V_fits_47 rfl (z_pc (pc' := 48) rfl ?_)
        refine z_iload C d_V_fits_48 rfl (z_pc (pc' := 50) rfl ?_)
        refine z_isub C d_V_fits_50 (z_pc (pc' := 51) rfl ?_)
        refine z_istore_n C d_V_fits_51 (by decide) (z_pl (pc' := 52) (L' := [none, none, some (zi (zsub 16 (zadd 1 (zmin v4 6)))), some (zi (zadd v3 1)), some (zi v4), some (zi (zadd 1 (zmin v4 6)))]) rfl rfl ?_)
        refine z_iinc C d_V_fits_52 rfl (by decide) (z_pl (pc' := 55) (L' := [none, none, some (zi (zsub 16 (zadd 1 (zmin v4 6)))), some (zi (zadd v3 1)), some (zi (zadd v4 (-6))), some (zi (zadd 1 (zmin v4 6)))]) rfl rfl ?_)
        refine z_goto (tgt := 19) C d_V_fits_55 (by decide) ?_
        exact z_sub2 (ih _ _ _ _ hf) (And.intro rfl (And.intro rfl (And.intro rfl trivial)))
theorem e_V_fits {a0 : Nat} {a1 : Int} {M : zHp} {q : Int × zHp} (hf : f_V_fits a0 a1 M = some q) : zk M a0 = 0 := by
  unfold f_V_fits at hf
  exact (zif hf).1
set_option maxHeartbeats 4000000 in
set_option maxRecDepth 100000 in
theorem c_V_fits (D : va_G) (n0 : Nat) (l : Launch) {a0 : Nat} {a1 : Int} {M : zHp} {r : Int} {M' : zHp} (hf : f_V_fits a0 a1 M = some (r, M')) : zM D n0 l y_V_fits b_V_fits 6 (some .boolean) 1 21 0 0 [zv n0 a0, zi a1] M (some (zi r)) M' := by
  refine zM.ofZ (by decide) (zcr (zci zcn)) (Nat.le_of_ble_eq_true rfl) ?_
  intro p e s m below meth c C hr hnm
  have C : zC D n0 p s m meth c b_V_fits 6 "LayerVault" := C
  refine z_eqL (L' := [some (zv n0 a0), some (zi a1), none, none, none, none]) rfl ?_
  unfold f_V_fits at hf
  have hf := (zif hf).2
  refine z_bipush C d_V_fits_0 (by decide) (z_pc (pc' := 2) rfl ?_)
  refine z_aload_n C d_V_fits_2 rfl (z_pc (pc' := 3) rfl ?_)
  obtain ⟨x1, h2, hf⟩ := zbind hf
  refine z_getr C fl_V_16 rfl h2 d_V_fits_3 (z_pc (pc' := 6) rfl ?_)
  obtain ⟨x3, h4, hf⟩ := zbind hf
  refine z_geti C fl_V_79 h4 d_V_fits_6 (z_pc (pc' := 9) rfl ?_)
  refine z_isub C d_V_fits_9 (z_pc (pc' := 10) rfl ?_)
  refine z_istore_n C d_V_fits_10 (by decide) (z_pl (pc' := 11) (L' := [some (zv n0 a0), some (zi a1), some (zi (zsub 16 x3)), none, none, none]) rfl rfl ?_)
  refine z_aload_n C d_V_fits_11 rfl (z_pc (pc' := 12) rfl ?_)
  obtain ⟨x5, h6, hf⟩ := zbind hf
  refine z_geti C fl_V_19 h6 d_V_fits_12 (z_pc (pc' := 15) rfl ?_)
  refine z_istore_n C d_V_fits_15 (by decide) (z_pl (pc' := 16) (L' := [some (zv n0 a0), some (zi a1), some (zi (zsub 16 x3)), some (zi x5), none, none]) rfl rfl ?_)
  refine z_iload_n C d_V_fits_16 rfl (z_pc (pc' := 17) rfl ?_)
  refine z_istore C d_V_fits_17 (by decide) (z_pl (pc' := 19) (L' := [some (zv n0 a0), some (zi a1), some (zi (zsub 16 x3)), some (zi x5), some (zi a1), none]) rfl rfl ?_)
  refine z_sub2 (w_V_fits_L19 C hr ?_ _ _ _ _ _ hf) (And.intro rfl (And.intro rfl (And.intro rfl trivial)))
  intro v9 M10 hf
  refine z_iload_n C d_V_fits_58 rfl (z_pc (pc' := 59) rfl ?_)
  refine z_bipush C d_V_fits_59 (by decide) (z_pc (pc' := 61) rfl ?_)
  refine z_icmp_gt (tgt := 68) C d_V_fits_61 (by decide) (fun c11 => ?_) (fun c11 => z_pc (pc' := 64) rfl ?_)
  · have hf := zpos c11 hf
    refine z_iconst C d_V_fits_68 (z_pc (pc' := 69) rfl ?_)
    exact z_zret C hr rfl (Nat.le_of_ble_eq_true rfl) (Nat.le_of_ble_eq_true rfl) d_V_fits_69 hf
  · have hf := zneg c11 hf
    refine z_iconst C d_V_fits_64 (z_pc (pc' := 65) rfl ?_)
    refine z_goto (tgt := 69) C d_V_fits_65 (by decide) ?_
    exact z_zret C hr rfl (Nat.le_of_ble_eq_true rfl) (Nat.le_of_ble_eq_true rfl) d_V_fits_69 hf
set_option maxHeartbeats 4000000 in
set_option maxRecDepth 100000 in
theorem w_V_collect_L51 {D : va_G} {n0 : Nat} {l : Launch} {p : Program} {e : Env} {s : State} {m : MethodId} {args : Array Value} {below : List Frame} {meth : Method} {c : Code} {B Bs : Nat} {a0 : Nat} {a1 : Int} {r : Int} {M' : zHp} {κ : zHp → Option (Int × zHp)} (C : zC D n0 p s m meth c b_V_collect 7 "LayerVault") (hr : meth.sig.returnType = (some .int)) (hB : B ≤ 794) (hBs : Bs ≤ 5291)
    (hκ : ∀ (M1 : zHp), κ M1 = some (r, M') → zZ D n0 p l e { frames := 7, cells := 794, slots := 5291, locals := 163 } s m args below meth c 7 B Bs (MQ below (zQc D n0 (some (zi r)) M') args s 794 5291 (fun q => n0 ≤ q)) 159 [some (zv n0 a0), some (zi a1), none, none, none, none, none] [] M1) :
    ∀ (n cells slots : Nat), cells + n * 4 ≤ B → slots + n * 55 ≤ Bs → ∀ (v2 : Int) (v3 : Int) (v4 : Nat) (v5 : Int) (M : zHp), f_V_collect_L51 κ a0 n v2 v3 v4 v5 M = some (r, M') → zZ D n0 p l e { frames := 7, cells := 794, slots := 5291, locals := 163 } s m args below meth c 7 cells slots (MQ below (zQc D n0 (some (zi r)) M') args s 794 5291 (fun q => n0 ≤ q)) 51 [some (zv n0 a0), some (zi a1), some (zi v2), some (zi v3), some (zv n0 v4), some (zi v5), none] [] M := by
  intro n
  induction n with
  | zero =>
    intro cells slots hb1 hb2 v2 v3 v4 v5 M hf
    exact absurd hf (by unfold f_V_collect_L51; simp)
  | succ n ih =>
    intro cells slots hb1 hb2 v2 v3 v4 v5 M hf
    unfold f_V_collect_L51 at hf
    refine z_iload C d_V_collect_51 rfl (z_pc (pc' := 53) rfl ?_)
    refine z_aload_n C d_V_collect_53 rfl (z_pc (pc' := 54) rfl ?_)
    obtain ⟨x19, h20, hf⟩ := zbind hf
    refine z_getr C fl_V_10 rfl h20 d_V_collect_54 (z_pc (pc' := 57) rfl ?_)
    obtain ⟨x21, h22, hf⟩ := zbind hf
    refine z_geti C fl_V_79 h22 d_V_collect_57 (z_pc (pc' := 60) rfl ?_)
    refine z_icmp_ge (tgt := 159) C d_V_collect_60 (by decide) (fun c23 => ?_) (fun c23 => z_pc (pc' := 63) rfl ?_)
    · have hf := zpos c23 hf
      exact z_widen (by omega) (by omega) (z_sub2 (hκ _ hf) (And.intro rfl (And.intro rfl trivial)))
    · have hf := zneg c23 hf
      refine z_iload_n C d_V_collect_63 rfl (z_pc (pc' := 64) rfl ?_)
      refine z_if_le (tgt := 159) C d_V_collect_64 (by decide) (fun c24 => ?_) (fun c24 => z_pc (pc' := 67) rfl ?_)
      · have hf := zpos c24 hf
        exact z_widen (by omega) (by omega) (z_sub2 (hκ _ hf) (And.intro rfl (And.intro rfl trivial)))
      · have hf := zneg c24 hf
        refine z_aload_n C d_V_collect_67 rfl (z_pc (pc' := 68) rfl ?_)
        refine z_aload_n C d_V_collect_68 rfl (z_pc (pc' := 69) rfl ?_)
        obtain ⟨x25, h26, hf⟩ := zbind hf
        refine z_getr C fl_V_10 rfl h26 d_V_collect_69 (z_pc (pc' := 72) rfl ?_)
        refine z_iload C d_V_collect_72 rfl (z_pc (pc' := 74) rfl ?_)
        obtain ⟨x29, M28, h27, hf⟩ := zb2_inv hf
        refine z_callV C [zv n0 x25, zi v5] [] kv_V_293 (c_V_owner D n0 l h27) (e_V_owner h27) ⟨(Nat.le_of_ble_eq_true rfl), (Nat.le_of_ble_eq_true rfl)⟩ (Nat.le_of_ble_eq_true rfl) ⟨(by show cells + 0 ≤ 794; omega), (by show slots + 0 ≤ 5291; omega)⟩ d_V_collect_74 (z_pc (pc' := 77) rfl ?_)
        refine z_astore C d_V_collect_77 (by decide) (z_pl (pc' := 79) (L' := [some (zv n0 a0), some (zi a1), some (zi v2), some (zi v3), some (zv n0 v4), some (zi v5), some (zv n0 x29)]) rfl rfl ?_)
        refine z_aload C d_V_collect_79 rfl (z_pc (pc' := 81) rfl ?_)
        refine z_ifnonnull (tgt := 87) C d_V_collect_81 (by decide) (fun c30 => ?_) (fun c30 => (z_pc (pc' := 84) rfl ?_))
        · have hf := zneg c30 hf
          refine z_iload_n C d_V_collect_87 rfl (z_pc (pc' := 88) rfl ?_)
          refine z_if_ne (tgt := 116) C d_V_collect_88 (by decide) (fun c31 => ?_) (fun c31 => z_pc (pc' := 91) rfl ?_)
          · have hf := zneg c31 hf
            refine z_aload C d_V_collect_116 rfl (z_pc (pc' := 118) rfl ?_)
            refine z_aload C d_V_collect_118 rfl (z_pc (pc' := 120) rfl ?_)
            refine z_aload C d_V_collect_120 rfl (z_pc (pc' := 122) rfl ?_)
            refine z_aload C d_V_collect_122 rfl (z_pc (pc' := 124) rfl ?_)
            obtain ⟨x32, h33, hf⟩ := zbind hf
            refine z_geti C fl_V_156 h33 d_V_collect_124 (z_pc (pc' := 127) rfl ?_)
            refine z_iconst C d_V_collect_127 (z_pc (pc' := 128) rfl ?_)
            obtain ⟨x36, M35, h34, hf⟩ := zb2_inv hf
            refine z_callS C [zi x32, zi 0] [zv n0 v4, zv n0 v4, zv n0 x29] ks_V_134 (c_V_code D n0 l h34) ⟨(Nat.le_of_ble_eq_true rfl), (Nat.le_of_ble_eq_true rfl)⟩ (Nat.le_of_ble_eq_true rfl) ⟨(by show cells + 0 ≤ 794; omega), (by show slots + 0 ≤ 5291; omega)⟩ d_V_collect_128 (z_pc (pc' := 131) rfl ?_)
            refine z_aload C d_V_collect_131 rfl (z_pc (pc' := 133) rfl ?_)
            obtain ⟨x39, M38, h37, hf⟩ := zb2_inv hf
            refine z_callV C [] [zi x36, zv n0 v4, zv n0 v4, zv n0 x29] kv_V_297 (c_E_value D n0 l h37) (e_E_value h37) ⟨(Nat.le_of_ble_eq_true rfl), (Nat.le_of_ble_eq_true rfl)⟩ (Nat.le_of_ble_eq_true rfl) ⟨(by show cells + 0 ≤ 794; omega), (by show slots + 0 ≤ 5291; omega)⟩ d_V_collect_133 (z_pc (pc' := 136) rfl ?_)
            refine z_aload C d_V_collect_136 rfl (z_pc (pc' := 138) rfl ?_)
            obtain ⟨x40, h41, hf⟩ := zbind hf
            refine z_geti C fl_V_167 h41 d_V_collect_138 (z_pc (pc' := 141) rfl ?_)
            obtain ⟨x44, M43, h42, hf⟩ := zb2_inv hf
            refine z_callV C [zi x36, zi x39, zi x40] [zv n0 v4, zv n0 x29] kv_V_131 (c_S_write D n0 l h42) (e_S_write h42) ⟨(Nat.le_of_ble_eq_true rfl), (Nat.le_of_ble_eq_true rfl)⟩ (Nat.le_of_ble_eq_true rfl) ⟨(by show cells + 0 ≤ 794; omega), (by show slots + 0 ≤ 5291; omega)⟩ d_V_collect_141 (z_pc (pc' := 144) rfl ?_)
            obtain ⟨M46, h45, hf⟩ := zbind hf
            refine z_callV C [zv n0 v4, zi x44] [] kv_V_170 (c_E_settle D n0 l h45) (e_E_settle h45) ⟨(Nat.le_of_ble_eq_true rfl), (Nat.le_of_ble_eq_true rfl)⟩ (Nat.le_of_ble_eq_true rfl) ⟨(by show cells + 0 ≤ 794; omega), (by show slots + 0 ≤ 5291; omega)⟩ d_V_collect_144 (z_pc (pc' := 147) rfl ?_)
            refine z_iinc C d_V_collect_147 rfl (by decide) (z_pl (pc' := 150) (L' := [some (zv n0 a0), some (zi a1), some (zi v2), some (zi (zadd v3 (-1))), some (zv n0 v4), some (zi v5), some (zv n0 x29)]) rfl rfl ?_)
            refine z_iinc C d_V_collect_150 rfl (by decide) (z_pl (pc' := 153) (L' := [some (zv n0 a0), some (zi a1), some (zi (zadd v2 (-1))), some (zi (zadd v3 (-1))), some (zv n0 v4), some (zi v5), some (zv n0 x29)]) rfl rfl ?_)
            refine z_iinc C d_V_collect_153 rfl (by decide) (z_pl (pc' := 156) (L' := [some (zv n0 a0), some (zi a1), some (zi (zadd v2 (-1))), some (zi (zadd v3 (-1))), some (zv n0 v4), some (zi (zadd v5 1)), some (zv n0 x29)]) rfl rfl ?_)
            refine z_goto (tgt := 51) C d_V_collect_156 (by decide) ?_
            exact z_widen (k := cells + 4) (n := slots + 55) (by omega) (by omega) (z_sub2 (ih (cells + 4) (slots + 55) (by omega) (by omega) _ _ _ _ _ hf) (And.intro rfl (And.intro rfl (And.intro rfl (And.intro rfl (And.intro rfl (And.intro rfl trivial)))))))
          · have hf := zpos c31 hf
            refine z_iload_n C d_V_collect_91 rfl (z_pc (pc' := 92) rfl ?_)
            refine z_bipush C d_V_collect_92 (by decide) (z_pc (pc' := 94) rfl ?_)
            refine z_mmin C km_V_281 km_st_min km_ini km_code_min ⟨(Nat.le_of_ble_eq_true rfl), (Nat.le_of_ble_eq_true rfl)⟩ (Nat.le_of_ble_eq_true rfl) ⟨(by show cells + 0 ≤ 794; omega), (by show slots + 0 ≤ 5291; omega)⟩ d_V_collect_94 (z_pc (pc' := 97) rfl ?_)
            refine z_istore_n C d_V_collect_97 (by decide) (z_pl (pc' := 98) (L' := [some (zv n0 a0), some (zi a1), some (zi v2), some (zi (zmin v2 6)), some (zv n0 v4), some (zi v5), some (zv n0 x29)]) rfl rfl ?_)
            refine z_aload_n C d_V_collect_98 rfl (z_pc (pc' := 99) rfl ?_)
            refine z_iconst C d_V_collect_99 (z_pc (pc' := 100) rfl ?_)
            refine z_iload_n C d_V_collect_100 rfl (z_pc (pc' := 101) rfl ?_)
            refine z_iadd C d_V_collect_101 (z_pc (pc' := 102) rfl ?_)
            obtain ⟨x49, M48, h47, hf⟩ := zb2_inv hf
            refine z_callV C [zi (zadd 1 (zmin v2 6))] [] kv_V_127 (c_V_room D n0 l h47) (e_V_room h47) ⟨(Nat.le_of_ble_eq_true rfl), (Nat.le_of_ble_eq_true rfl)⟩ (Nat.le_of_ble_eq_true rfl) ⟨(by show cells + 4 ≤ 794; omega), (by show slots + 55 ≤ 5291; omega)⟩ d_V_collect_102 (z_pc (pc' := 105) rfl ?_)
            refine z_astore C d_V_collect_105 (by decide) (z_pl (pc' := 107) (L' := [some (zv n0 a0), some (zi a1), some (zi v2), some (zi (zmin v2 6)), some (zv n0 x49), some (zi v5), some (zv n0 x29)]) rfl rfl ?_)
            refine z_aload C d_V_collect_107 rfl (z_pc (pc' := 109) rfl ?_)
            refine z_iload_n C d_V_collect_109 rfl (z_pc (pc' := 110) rfl ?_)
            refine z_iconst C d_V_collect_110 (z_pc (pc' := 111) rfl ?_)
            refine z_iconst C d_V_collect_111 (z_pc (pc' := 112) rfl ?_)
            obtain ⟨x52, M51, h50, hf⟩ := zb2_inv hf
            refine z_callV C [zi (zmin v2 6), zi 0, zi 0] [] kv_V_131 (c_S_write D n0 l h50) (e_S_write h50) ⟨(Nat.le_of_ble_eq_true rfl), (Nat.le_of_ble_eq_true rfl)⟩ (Nat.le_of_ble_eq_true rfl) ⟨(by show cells + 4 ≤ 794; omega), (by show slots + 55 ≤ 5291; omega)⟩ d_V_collect_112 (z_pc (pc' := 115) rfl ?_)
            refine z_popi C d_V_collect_115 (z_pc (pc' := 116) rfl ?_)
            refine z_aload C d_V_collect_116 rfl (z_pc (pc' := 118) rfl ?_)
            refine z_aload C d_V_collect_118 rfl (z_pc (pc' := 120) rfl ?_)
            refine z_aload C d_V_collect_120 rfl (z_pc (pc' := 122) rfl ?_)
            refine z_aload C d_V_collect_122 rfl (z_pc (pc' := 124) rfl ?_)
            obtain ⟨x53, h54, hf⟩ := zbind hf
            refine z_geti C fl_V_156 h54 d_V_collect_124 (z_pc (pc' := 127) rfl ?_)
            refine z_iconst C d_V_collect_127 (z_pc (pc' := 128) rfl ?_)
            obtain ⟨x57, M56, h55, hf⟩ := zb2_inv hf
            refine z_callS C [zi x53, zi 0] [zv n0 x49, zv n0 x49, zv n0 x29] ks_V_134 (c_V_code D n0 l h55) ⟨(Nat.le_of_ble_eq_true rfl), (Nat.le_of_ble_eq_true rfl)⟩ (Nat.le_of_ble_eq_true rfl) ⟨(by show cells + 4 ≤ 794; omega), (by show slots + 55 ≤ 5291; omega)⟩ d_V_collect_128 (z_pc (pc' := 131) rfl ?_)
            refine z_aload C d_V_collect_131 rfl (z_pc (pc' := 133) rfl ?_)
            obtain ⟨x60, M59, h58, hf⟩ := zb2_inv hf
            refine z_callV C [] [zi x57, zv n0 x49, zv n0 x49, zv n0 x29] kv_V_297 (c_E_value D n0 l h58) (e_E_value h58) ⟨(Nat.le_of_ble_eq_true rfl), (Nat.le_of_ble_eq_true rfl)⟩ (Nat.le_of_ble_eq_true rfl) ⟨(by show cells + 4 ≤ 794; omega), (by show slots + 55 ≤ 5291; omega)⟩ d_V_collect_133 (z_pc (pc' := 136) rfl ?_)
            refine z_aload C d_V_collect_136 rfl (z_pc (pc' := 138) rfl ?_)
            obtain ⟨x61, h62, hf⟩ := zbind hf
            refine z_geti C fl_V_167 h62 d_V_collect_138 (z_pc (pc' := 141) rfl ?_)
            obtain ⟨x65, M64, h63, hf⟩ := zb2_inv hf
            refine z_callV C [zi x57, zi x60, zi x61] [zv n0 x49, zv n0 x29] kv_V_131 (c_S_write D n0 l h63) (e_S_write h63) ⟨(Nat.le_of_ble_eq_true rfl), (Nat.le_of_ble_eq_true rfl)⟩ (Nat.le_of_ble_eq_true rfl) ⟨(by show cells + 4 ≤ 794; omega), (by show slots + 55 ≤ 5291; omega)⟩ d_V_collect_141 (z_pc (pc' := 144) rfl ?_)
            obtain ⟨M67, h66, hf⟩ := zbind hf
            refine z_callV C [zv n0 x49, zi x65] [] kv_V_170 (c_E_settle D n0 l h66) (e_E_settle h66) ⟨(Nat.le_of_ble_eq_true rfl), (Nat.le_of_ble_eq_true rfl)⟩ (Nat.le_of_ble_eq_true rfl) ⟨(by show cells + 4 ≤ 794; omega), (by show slots + 55 ≤ 5291; omega)⟩ d_V_collect_144 (z_pc (pc' := 147) rfl ?_)
            refine z_iinc C d_V_collect_147 rfl (by decide) (z_pl (pc' := 150) (L' := [some (zv n0 a0), some (zi a1), some (zi v2), some (zi (zadd (zmin v2 6) (-1))), some (zv n0 x49), some (zi v5), some (zv n0 x29)]) rfl rfl ?_)
            refine z_iinc C d_V_collect_150 rfl (by decide) (z_pl (pc' := 153) (L' := [some (zv n0 a0), some (zi a1), some (zi (zadd v2 (-1))), some (zi (zadd (zmin v2 6) (-1))), some (zv n0 x49), some (zi v5), some (zv n0 x29)]) rfl rfl ?_)
            refine z_iinc C d_V_collect_153 rfl (by decide) (z_pl (pc' := 156) (L' := [some (zv n0 a0), some (zi a1), some (zi (zadd v2 (-1))), some (zi (zadd (zmin v2 6) (-1))), some (zv n0 x49), some (zi (zadd v5 1)), some (zv n0 x29)]) rfl rfl ?_)
            refine z_goto (tgt := 51) C d_V_collect_156 (by decide) ?_
            exact z_widen (k := cells + 4) (n := slots + 55) (by omega) (by omega) (z_sub2 (ih (cells + 4) (slots + 55) (by omega) (by omega) _ _ _ _ _ hf) (And.intro rfl (And.intro rfl (And.intro rfl (And.intro rfl (And.intro rfl (And.intro rfl trivial)))))))
        · have hf := zpos c30 hf
          refine z_goto (tgt := 153) C d_V_collect_84 (by decide) ?_
          refine z_iinc C d_V_collect_153 rfl (by decide) (z_pl (pc' := 156) (L' := [some (zv n0 a0), some (zi a1), some (zi v2), some (zi v3), some (zv n0 v4), some (zi (zadd v5 1)), some (zv n0 x29)]) rfl rfl ?_)
          refine z_goto (tgt := 51) C d_V_collect_156 (by decide) ?_
          exact z_widen (k := cells + 4) (n := slots + 55) (by omega) (by omega) (z_sub2 (ih (cells + 4) (slots + 55) (by omega) (by omega) _ _ _ _ _ hf) (And.intro rfl (And.intro rfl (And.intro rfl (And.intro rfl (And.intro rfl (And.intro rfl trivial)))))))
theorem e_V_collect {a0 : Nat} {M : zHp} {q : Int × zHp} (hf : f_V_collect a0 M = some q) : zk M a0 = 0 := by
  unfold f_V_collect at hf
  exact (zif hf).1
set_option maxHeartbeats 4000000 in
set_option maxRecDepth 100000 in
theorem c_V_collect (D : va_G) (n0 : Nat) (l : Launch) {a0 : Nat} {M : zHp} {r : Int} {M' : zHp} (hf : f_V_collect a0 M = some (r, M')) : zM D n0 l y_V_collect b_V_collect 7 (some .int) 7 163 794 5291 [zv n0 a0] M (some (zi r)) M' := by
  refine zM.ofZ (by decide) (zcr zcn) (Nat.le_of_ble_eq_true rfl) ?_
  intro p e s m below meth c C hr hnm
  have C : zC D n0 p s m meth c b_V_collect 7 "LayerVault" := C
  refine z_eqL (L' := [some (zv n0 a0), none, none, none, none, none, none]) rfl ?_
  unfold f_V_collect at hf
  have hf := (zif hf).2
  refine z_aload_n C d_V_collect_0 rfl (z_pc (pc' := 1) rfl ?_)
  obtain ⟨x1, h2, hf⟩ := zbind hf
  refine z_getr C fl_V_10 rfl h2 d_V_collect_1 (z_pc (pc' := 4) rfl ?_)
  refine z_aload_n C d_V_collect_4 rfl (z_pc (pc' := 5) rfl ?_)
  obtain ⟨x3, h4, hf⟩ := zbind hf
  refine z_getr C fl_V_16 rfl h4 d_V_collect_5 (z_pc (pc' := 8) rfl ?_)
  refine z_acmp_ne (tgt := 14) C d_V_collect_8 (by decide) (fun c5 => ?_) (fun c5 => (z_pc (pc' := 11) rfl ?_))
  · have hf := zneg c5 hf
    refine z_aload_n C d_V_collect_14 rfl (z_pc (pc' := 15) rfl ?_)
    obtain ⟨x8, M7, h6, hf⟩ := zb2_inv hf
    refine z_callV C [] [] kv_V_123 (c_V_flush D n0 l h6) (e_V_flush h6) ⟨(Nat.le_of_ble_eq_true rfl), (Nat.le_of_ble_eq_true rfl)⟩ (Nat.le_of_ble_eq_true rfl) ⟨(Nat.le_of_ble_eq_true rfl), (Nat.le_of_ble_eq_true rfl)⟩ d_V_collect_15 (z_pc (pc' := 18) rfl ?_)
    refine z_popi C d_V_collect_18 (z_pc (pc' := 19) rfl ?_)
    refine z_aload_n C d_V_collect_19 rfl (z_pc (pc' := 20) rfl ?_)
    obtain ⟨x9, h10, hf⟩ := zbind hf
    refine z_getr C fl_V_10 rfl h10 d_V_collect_20 (z_pc (pc' := 23) rfl ?_)
    obtain ⟨x11, h12, hf⟩ := zbind hf
    refine z_geti C fl_V_287 h12 d_V_collect_23 (z_pc (pc' := 26) rfl ?_)
    refine z_istore_n C d_V_collect_26 (by decide) (z_pl (pc' := 27) (L' := [some (zv n0 a0), some (zi x11), none, none, none, none, none]) rfl rfl ?_)
    refine z_aload_n C d_V_collect_27 rfl (z_pc (pc' := 28) rfl ?_)
    refine z_iload_n C d_V_collect_28 rfl (z_pc (pc' := 29) rfl ?_)
    obtain ⟨x15, M14, h13, hf⟩ := zb2_inv hf
    refine z_callV C [zi x11] [] kv_V_290 (c_V_fits D n0 l h13) (e_V_fits h13) ⟨(Nat.le_of_ble_eq_true rfl), (Nat.le_of_ble_eq_true rfl)⟩ (Nat.le_of_ble_eq_true rfl) ⟨(Nat.le_of_ble_eq_true rfl), (Nat.le_of_ble_eq_true rfl)⟩ d_V_collect_29 (z_pc (pc' := 32) rfl ?_)
    refine z_if_ne (tgt := 38) C d_V_collect_32 (by decide) (fun c16 => ?_) (fun c16 => z_pc (pc' := 35) rfl ?_)
    · have hf := zneg c16 hf
      refine z_iload_n C d_V_collect_38 rfl (z_pc (pc' := 39) rfl ?_)
      refine z_istore_n C d_V_collect_39 (by decide) (z_pl (pc' := 40) (L' := [some (zv n0 a0), some (zi x11), some (zi x11), none, none, none, none]) rfl rfl ?_)
      refine z_iconst C d_V_collect_40 (z_pc (pc' := 41) rfl ?_)
      refine z_istore_n C d_V_collect_41 (by decide) (z_pl (pc' := 42) (L' := [some (zv n0 a0), some (zi x11), some (zi x11), some (zi 0), none, none, none]) rfl rfl ?_)
      refine z_aload_n C d_V_collect_42 rfl (z_pc (pc' := 43) rfl ?_)
      obtain ⟨x17, h18, hf⟩ := zbind hf
      refine z_getr C fl_V_16 rfl h18 d_V_collect_43 (z_pc (pc' := 46) rfl ?_)
      refine z_astore C d_V_collect_46 (by decide) (z_pl (pc' := 48) (L' := [some (zv n0 a0), some (zi x11), some (zi x11), some (zi 0), some (zv n0 x17), none, none]) rfl rfl ?_)
      refine z_iconst C d_V_collect_48 (z_pc (pc' := 49) rfl ?_)
      refine z_istore C d_V_collect_49 (by decide) (z_pl (pc' := 51) (L' := [some (zv n0 a0), some (zi x11), some (zi x11), some (zi 0), some (zv n0 x17), some (zi 0), none]) rfl rfl ?_)
      refine z_sub2 (w_V_collect_L51 (B := 794) (Bs := 5291) C hr (Nat.le_of_ble_eq_true rfl) (Nat.le_of_ble_eq_true rfl) ?_ zf_V_collect_L51 _ _ (by decide) (by decide) _ _ _ _ _ hf) (And.intro rfl (And.intro rfl (And.intro rfl (And.intro rfl (And.intro rfl (And.intro rfl trivial))))))
      intro M68 hf
      refine z_aload_n C d_V_collect_159 rfl (z_pc (pc' := 160) rfl ?_)
      obtain ⟨x69, h70, hf⟩ := zbind hf
      refine z_getr C fl_V_10 rfl h70 d_V_collect_160 (z_pc (pc' := 163) rfl ?_)
      refine z_astore C d_V_collect_163 (by decide) (z_pl (pc' := 165) (L' := [some (zv n0 a0), some (zi x11), none, none, none, some (zv n0 x69), none]) rfl rfl ?_)
      refine z_aload_n C d_V_collect_165 rfl (z_pc (pc' := 166) rfl ?_)
      refine z_aload C d_V_collect_166 rfl (z_pc (pc' := 168) rfl ?_)
      obtain ⟨x71, h72, hf⟩ := zbind hf
      refine z_getr C fl_V_85 rfl h72 d_V_collect_168 (z_pc (pc' := 171) rfl ?_)
      obtain ⟨M73, h74, hf⟩ := zbind hf
      refine z_putr C fp_V_10 rfl (by decide) rfl h74 d_V_collect_171 (z_pc (pc' := 174) rfl ?_)
      refine z_aload_n C d_V_collect_174 rfl (z_pc (pc' := 175) rfl ?_)
      refine z_aload C d_V_collect_175 rfl (z_pc (pc' := 177) rfl ?_)
      obtain ⟨M76, h75, hf⟩ := zbind hf
      refine z_callV C [zv n0 x69] [] kv_V_300 (c_V_free D n0 l h75) (e_V_free h75) ⟨(Nat.le_of_ble_eq_true rfl), (Nat.le_of_ble_eq_true rfl)⟩ (Nat.le_of_ble_eq_true rfl) ⟨(Nat.le_of_ble_eq_true rfl), (Nat.le_of_ble_eq_true rfl)⟩ d_V_collect_177 (z_pc (pc' := 180) rfl ?_)
      refine z_aload_n C d_V_collect_180 rfl (z_pc (pc' := 181) rfl ?_)
      obtain ⟨M78, h77, hf⟩ := zbind hf
      refine z_callV C [] [] kv_V_106 (c_V_syncAll D n0 l h77) (e_V_syncAll h77) ⟨(Nat.le_of_ble_eq_true rfl), (Nat.le_of_ble_eq_true rfl)⟩ (Nat.le_of_ble_eq_true rfl) ⟨(Nat.le_of_ble_eq_true rfl), (Nat.le_of_ble_eq_true rfl)⟩ d_V_collect_181 (z_pc (pc' := 184) rfl ?_)
      refine z_iload_n C d_V_collect_184 rfl (z_pc (pc' := 185) rfl ?_)
      exact z_iret C hr (Nat.le_of_ble_eq_true rfl) (Nat.le_of_ble_eq_true rfl) d_V_collect_185 hf
    · have hf := zpos c16 hf
      refine z_bipush C d_V_collect_35 (by decide) (z_pc (pc' := 37) rfl ?_)
      exact z_iret C hr (Nat.le_of_ble_eq_true rfl) (Nat.le_of_ble_eq_true rfl) d_V_collect_37 hf
  · have hf := zpos c5 hf
    refine z_bipush C d_V_collect_11 (by decide) (z_pc (pc' := 13) rfl ?_)
    exact z_iret C hr (Nat.le_of_ble_eq_true rfl) (Nat.le_of_ble_eq_true rfl) d_V_collect_13 hf
set_option maxHeartbeats 4000000 in
set_option maxRecDepth 100000 in
theorem w_V_take_L2 {D : va_G} {n0 : Nat} {l : Launch} {p : Program} {e : Env} {s : State} {m : MethodId} {args : Array Value} {below : List Frame} {meth : Method} {c : Code} {a0 : Nat} {r : Int} {M' : zHp} {κ : zHp → Option (Int × zHp)} (C : zC D n0 p s m meth c b_V_take 2 "LayerVault") (hr : meth.sig.returnType = (some .int))
    (hκ : ∀ (M1 : zHp), κ M1 = some (r, M') → zZ D n0 p l e { frames := 0, cells := 0, slots := 0, locals := 0 } s m args below meth c 2 0 0 (MQ below (zQc D n0 (some (zi r)) M') args s 0 0 (fun q => n0 ≤ q)) 34 [none, none] [] M1) :
    ∀ (n : Nat) (v1 : Int) (M : zHp), f_V_take_L2 κ a0 n v1 M = some (r, M') → zZ D n0 p l e { frames := 0, cells := 0, slots := 0, locals := 0 } s m args below meth c 2 0 0 (MQ below (zQc D n0 (some (zi r)) M') args s 0 0 (fun q => n0 ≤ q)) 2 [some (zv n0 a0), some (zi v1)] [] M := by
  intro n
  induction n with
  | zero =>
    intro v1 M hf
    exact absurd hf (by unfold f_V_take_L2; simp)
  | succ n ih =>
    intro v1 M hf
    unfold f_V_take_L2 at hf
    refine z_iload_n C d_V_take_2 rfl (z_pc (pc' := 3) rfl ?_)
    refine z_iconst C d_V_take_3 (z_pc (pc' := 4) rfl ?_)
    refine z_icmp_ge (tgt := 34) C d_V_take_4 (by decide) (fun c1 => ?_) (fun c1 => z_pc (pc' := 7) rfl ?_)
    · have hf := zpos c1 hf
      exact z_sub2 (hκ _ hf) trivial
    · have hf := zneg c1 hf
      refine z_aload_n C d_V_take_7 rfl (z_pc (pc' := 8) rfl ?_)
      obtain ⟨x2, h3, hf⟩ := zbind hf
      refine z_getr C fl_V_36 rfl h3 d_V_take_8 (z_pc (pc' := 11) rfl ?_)
      refine z_iload_n C d_V_take_11 rfl (z_pc (pc' := 12) rfl ?_)
      obtain ⟨x4, h5, hf⟩ := zbind hf
      refine z_iald C h5 d_V_take_12 (z_pc (pc' := 13) rfl ?_)
      refine z_if_ge (tgt := 28) C d_V_take_13 (by decide) (fun c6 => ?_) (fun c6 => z_pc (pc' := 16) rfl ?_)
      · have hf := zpos c6 hf
        refine z_iinc C d_V_take_28 rfl (by decide) (z_pl (pc' := 31) (L' := [some (zv n0 a0), some (zi (zadd v1 1))]) rfl rfl ?_)
        refine z_goto (tgt := 2) C d_V_take_31 (by decide) ?_
        exact z_sub2 (ih _ _ hf) (And.intro rfl (And.intro rfl trivial))
      · have hf := zneg c6 hf
        refine z_aload_n C d_V_take_16 rfl (z_pc (pc' := 17) rfl ?_)
        obtain ⟨x7, h8, hf⟩ := zbind hf
        refine z_getr C fl_V_36 rfl h8 d_V_take_17 (z_pc (pc' := 20) rfl ?_)
        refine z_iload_n C d_V_take_20 rfl (z_pc (pc' := 21) rfl ?_)
        refine z_aload_n C d_V_take_21 rfl (z_pc (pc' := 22) rfl ?_)
        obtain ⟨x9, h10, hf⟩ := zbind hf
        refine z_geti C fl_V_97 h10 d_V_take_22 (z_pc (pc' := 25) rfl ?_)
        obtain ⟨M11, h12, hf⟩ := zbind hf
        refine z_iast C h12 d_V_take_25 (z_pc (pc' := 26) rfl ?_)
        refine z_iload_n C d_V_take_26 rfl (z_pc (pc' := 27) rfl ?_)
        exact z_iret C hr (Nat.le_of_ble_eq_true rfl) (Nat.le_of_ble_eq_true rfl) d_V_take_27 hf
theorem e_V_take {a0 : Nat} {M : zHp} {q : Int × zHp} (hf : f_V_take a0 M = some q) : zk M a0 = 0 := by
  unfold f_V_take at hf
  exact (zif hf).1
set_option maxHeartbeats 4000000 in
set_option maxRecDepth 100000 in
theorem c_V_take (D : va_G) (n0 : Nat) (l : Launch) {a0 : Nat} {M : zHp} {r : Int} {M' : zHp} (hf : f_V_take a0 M = some (r, M')) : zM D n0 l y_V_take b_V_take 2 (some .int) 0 0 0 0 [zv n0 a0] M (some (zi r)) M' := by
  refine zM.ofZ (by decide) (zcr zcn) (Nat.le_of_ble_eq_true rfl) ?_
  intro p e s m below meth c C hr hnm
  have C : zC D n0 p s m meth c b_V_take 2 "LayerVault" := C
  refine z_eqL (L' := [some (zv n0 a0), none]) rfl ?_
  unfold f_V_take at hf
  have hf := (zif hf).2
  refine z_iconst C d_V_take_0 (z_pc (pc' := 1) rfl ?_)
  refine z_istore_n C d_V_take_1 (by decide) (z_pl (pc' := 2) (L' := [some (zv n0 a0), some (zi 0)]) rfl rfl ?_)
  refine z_sub2 (w_V_take_L2 C hr ?_ _ _ _ hf) (And.intro rfl (And.intro rfl trivial))
  intro M13 hf
  refine z_bipush C d_V_take_34 (by decide) (z_pc (pc' := 36) rfl ?_)
  exact z_iret C hr (Nat.le_of_ble_eq_true rfl) (Nat.le_of_ble_eq_true rfl) d_V_take_36 hf
theorem e_V_release {a0 : Nat} {a1 : Int} {M : zHp} {q : Int × zHp} (hf : f_V_release a0 a1 M = some q) : zk M a0 = 0 := by
  unfold f_V_release at hf
  exact (zif hf).1
set_option maxHeartbeats 4000000 in
set_option maxRecDepth 100000 in
theorem c_V_release (D : va_G) (n0 : Nat) (l : Launch) {a0 : Nat} {a1 : Int} {M : zHp} {r : Int} {M' : zHp} (hf : f_V_release a0 a1 M = some (r, M')) : zM D n0 l y_V_release b_V_release 2 (some .boolean) 0 0 0 0 [zv n0 a0, zi a1] M (some (zi r)) M' := by
  refine zM.ofZ (by decide) (zcr (zci zcn)) (Nat.le_of_ble_eq_true rfl) ?_
  intro p e s m below meth c C hr hnm
  have C : zC D n0 p s m meth c b_V_release 2 "LayerVault" := C
  refine z_eqL (L' := [some (zv n0 a0), some (zi a1)]) rfl ?_
  unfold f_V_release at hf
  have hf := (zif hf).2
  refine z_iload_n C d_V_release_0 rfl (z_pc (pc' := 1) rfl ?_)
  refine z_if_lt (tgt := 18) C d_V_release_1 (by decide) (fun c1 => ?_) (fun c1 => z_pc (pc' := 4) rfl ?_)
  · have hf := zpos c1 hf
    refine z_iconst C d_V_release_18 (z_pc (pc' := 19) rfl ?_)
    exact z_zret C hr rfl (Nat.le_of_ble_eq_true rfl) (Nat.le_of_ble_eq_true rfl) d_V_release_19 hf
  · have hf := zneg c1 hf
    refine z_iload_n C d_V_release_4 rfl (z_pc (pc' := 5) rfl ?_)
    refine z_iconst C d_V_release_5 (z_pc (pc' := 6) rfl ?_)
    refine z_icmp_ge (tgt := 18) C d_V_release_6 (by decide) (fun c2 => ?_) (fun c2 => z_pc (pc' := 9) rfl ?_)
    · have hf := zpos c2 hf
      refine z_iconst C d_V_release_18 (z_pc (pc' := 19) rfl ?_)
      exact z_zret C hr rfl (Nat.le_of_ble_eq_true rfl) (Nat.le_of_ble_eq_true rfl) d_V_release_19 hf
    · have hf := zneg c2 hf
      refine z_aload_n C d_V_release_9 rfl (z_pc (pc' := 10) rfl ?_)
      obtain ⟨x3, h4, hf⟩ := zbind hf
      refine z_getr C fl_V_36 rfl h4 d_V_release_10 (z_pc (pc' := 13) rfl ?_)
      refine z_iload_n C d_V_release_13 rfl (z_pc (pc' := 14) rfl ?_)
      obtain ⟨x5, h6, hf⟩ := zbind hf
      refine z_iald C h6 d_V_release_14 (z_pc (pc' := 15) rfl ?_)
      refine z_if_ge (tgt := 20) C d_V_release_15 (by decide) (fun c7 => ?_) (fun c7 => z_pc (pc' := 18) rfl ?_)
      · have hf := zpos c7 hf
        refine z_aload_n C d_V_release_20 rfl (z_pc (pc' := 21) rfl ?_)
        obtain ⟨x8, h9, hf⟩ := zbind hf
        refine z_getr C fl_V_36 rfl h9 d_V_release_21 (z_pc (pc' := 24) rfl ?_)
        refine z_iload_n C d_V_release_24 rfl (z_pc (pc' := 25) rfl ?_)
        refine z_iconst C d_V_release_25 (z_pc (pc' := 26) rfl ?_)
        obtain ⟨M10, h11, hf⟩ := zbind hf
        refine z_iast C h11 d_V_release_26 (z_pc (pc' := 27) rfl ?_)
        refine z_iconst C d_V_release_27 (z_pc (pc' := 28) rfl ?_)
        exact z_zret C hr rfl (Nat.le_of_ble_eq_true rfl) (Nat.le_of_ble_eq_true rfl) d_V_release_28 hf
      · have hf := zneg c7 hf
        refine z_iconst C d_V_release_18 (z_pc (pc' := 19) rfl ?_)
        exact z_zret C hr rfl (Nat.le_of_ble_eq_true rfl) (Nat.le_of_ble_eq_true rfl) d_V_release_19 hf
theorem e_V_tick {a0 : Nat} {a1 : Int} {M : zHp} {q : Int × zHp} (hf : f_V_tick a0 a1 M = some q) : zk M a0 = 0 := by
  unfold f_V_tick at hf
  exact (zif hf).1
set_option maxHeartbeats 4000000 in
set_option maxRecDepth 100000 in
theorem c_V_tick (D : va_G) (n0 : Nat) (l : Launch) {a0 : Nat} {a1 : Int} {M : zHp} {r : Int} {M' : zHp} (hf : f_V_tick a0 a1 M = some (r, M')) : zM D n0 l y_V_tick b_V_tick 2 (some .int) 0 0 0 0 [zv n0 a0, zi a1] M (some (zi r)) M' := by
  refine zM.ofZ (by decide) (zcr (zci zcn)) (Nat.le_of_ble_eq_true rfl) ?_
  intro p e s m below meth c C hr hnm
  have C : zC D n0 p s m meth c b_V_tick 2 "LayerVault" := C
  refine z_eqL (L' := [some (zv n0 a0), some (zi a1)]) rfl ?_
  unfold f_V_tick at hf
  have hf := (zif hf).2
  refine z_iload_n C d_V_tick_0 rfl (z_pc (pc' := 1) rfl ?_)
  refine z_if_lt (tgt := 11) C d_V_tick_1 (by decide) (fun c1 => ?_) (fun c1 => z_pc (pc' := 4) rfl ?_)
  · have hf := zpos c1 hf
    refine z_iconst C d_V_tick_11 (z_pc (pc' := 12) rfl ?_)
    exact z_iret C hr (Nat.le_of_ble_eq_true rfl) (Nat.le_of_ble_eq_true rfl) d_V_tick_12 hf
  · have hf := zneg c1 hf
    refine z_iload_n C d_V_tick_4 rfl (z_pc (pc' := 5) rfl ?_)
    refine z_sipush C d_V_tick_5 (by decide) (z_pc (pc' := 8) rfl ?_)
    refine z_icmp_le (tgt := 13) C d_V_tick_8 (by decide) (fun c2 => ?_) (fun c2 => z_pc (pc' := 11) rfl ?_)
    · have hf := zpos c2 hf
      refine z_aload_n C d_V_tick_13 rfl (z_pc (pc' := 14) rfl ?_)
      refine z_dupr C d_V_tick_14 (z_pc (pc' := 15) rfl ?_)
      obtain ⟨x3, h4, hf⟩ := zbind hf
      refine z_geti C fl_V_138 h4 d_V_tick_15 (z_pc (pc' := 18) rfl ?_)
      refine z_iload_n C d_V_tick_18 rfl (z_pc (pc' := 19) rfl ?_)
      refine z_iadd C d_V_tick_19 (z_pc (pc' := 20) rfl ?_)
      obtain ⟨M5, h6, hf⟩ := zbind hf
      refine z_puti C fp_V_138 (by decide) rfl h6 d_V_tick_20 (z_pc (pc' := 23) rfl ?_)
      refine z_aload_n C d_V_tick_23 rfl (z_pc (pc' := 24) rfl ?_)
      obtain ⟨x7, h8, hf⟩ := zbind hf
      refine z_geti C fl_V_138 h8 d_V_tick_24 (z_pc (pc' := 27) rfl ?_)
      exact z_iret C hr (Nat.le_of_ble_eq_true rfl) (Nat.le_of_ble_eq_true rfl) d_V_tick_27 hf
    · have hf := zneg c2 hf
      refine z_iconst C d_V_tick_11 (z_pc (pc' := 12) rfl ?_)
      exact z_iret C hr (Nat.le_of_ble_eq_true rfl) (Nat.le_of_ble_eq_true rfl) d_V_tick_12 hf
set_option maxHeartbeats 4000000 in
set_option maxRecDepth 100000 in
theorem w_V_cut_L21 {D : va_G} {n0 : Nat} {l : Launch} {p : Program} {e : Env} {s : State} {m : MethodId} {args : Array Value} {below : List Frame} {meth : Method} {c : Code} {a0 : Nat} {a1 : Int} {M' : zHp} {κ : Nat → Int → zHp → Option (zHp)} (C : zC D n0 p s m meth c b_V_cut 6 "LayerVault") (hr : meth.sig.returnType = none)
    (hκ : ∀ (u2 : Nat) (u3 : Int) (M1 : zHp), κ u2 u3 M1 = some M' → zZ D n0 p l e { frames := 1, cells := 0, slots := 0, locals := 21 } s m args below meth c 6 0 0 (MQ below (zQc D n0 none M') args s 0 0 (fun q => n0 ≤ q)) 78 [some (zv n0 a0), none, some (zv n0 u2), some (zi u3), none, none] [] M1) :
    ∀ (n : Nat) (v2 : Nat) (v3 : Int) (v4 : Int) (M : zHp), f_V_cut_L21 κ a0 a1 n v2 v3 v4 M = some M' → zZ D n0 p l e { frames := 1, cells := 0, slots := 0, locals := 21 } s m args below meth c 6 0 0 (MQ below (zQc D n0 none M') args s 0 0 (fun q => n0 ≤ q)) 21 [some (zv n0 a0), some (zi a1), some (zv n0 v2), some (zi v3), some (zi v4), none] [] M := by
  intro n
  induction n with
  | zero =>
    intro v2 v3 v4 M hf
    exact absurd hf (by unfold f_V_cut_L21; simp)
  | succ n ih =>
    intro v2 v3 v4 M hf
    unfold f_V_cut_L21 at hf
    refine z_iload C d_V_cut_21 rfl (z_pc (pc' := 23) rfl ?_)
    refine z_iload_n C d_V_cut_23 rfl (z_pc (pc' := 24) rfl ?_)
    refine z_icmp_ge (tgt := 78) C d_V_cut_24 (by decide) (fun c9 => ?_) (fun c9 => z_pc (pc' := 27) rfl ?_)
    · have hf := zpos c9 hf
      exact z_sub2 (hκ _ _ _ hf) (And.intro rfl (And.intro rfl (And.intro rfl trivial)))
    · have hf := zneg c9 hf
      refine z_iload_n C d_V_cut_27 rfl (z_pc (pc' := 28) rfl ?_)
      refine z_aload_n C d_V_cut_28 rfl (z_pc (pc' := 29) rfl ?_)
      obtain ⟨x10, h11, hf⟩ := zbind hf
      refine z_geti C fl_V_79 h11 d_V_cut_29 (z_pc (pc' := 32) rfl ?_)
      refine z_icmp_ne (tgt := 42) C d_V_cut_32 (by decide) (fun c12 => ?_) (fun c12 => z_pc (pc' := 35) rfl ?_)
      · have hf := zneg c12 hf
        refine z_aload_n C d_V_cut_42 rfl (z_pc (pc' := 43) rfl ?_)
        refine z_aload_n C d_V_cut_43 rfl (z_pc (pc' := 44) rfl ?_)
        obtain ⟨x13, h14, hf⟩ := zbind hf
        refine z_getr C fl_V_313 rfl h14 d_V_cut_44 (z_pc (pc' := 47) rfl ?_)
        refine z_iload_n C d_V_cut_47 rfl (z_pc (pc' := 48) rfl ?_)
        obtain ⟨x15, h16, hf⟩ := zbind hf
        refine z_iald C h16 d_V_cut_48 (z_pc (pc' := 49) rfl ?_)
        refine z_aload_n C d_V_cut_49 rfl (z_pc (pc' := 50) rfl ?_)
        obtain ⟨x17, h18, hf⟩ := zbind hf
        refine z_getr C fl_V_153 rfl h18 d_V_cut_50 (z_pc (pc' := 53) rfl ?_)
        refine z_iload_n C d_V_cut_53 rfl (z_pc (pc' := 54) rfl ?_)
        obtain ⟨x19, h20, hf⟩ := zbind hf
        refine z_iald C h20 d_V_cut_54 (z_pc (pc' := 55) rfl ?_)
        refine z_iadd C d_V_cut_55 (z_pc (pc' := 56) rfl ?_)
        refine z_iconst C d_V_cut_56 (z_pc (pc' := 57) rfl ?_)
        refine z_isub C d_V_cut_57 (z_pc (pc' := 58) rfl ?_)
        obtain ⟨M21, h22, hf⟩ := zbind hf
        refine z_puti C fp_V_97 (by decide) rfl h22 d_V_cut_58 (z_pc (pc' := 61) rfl ?_)
        refine z_iload_n C d_V_cut_61 rfl (z_pc (pc' := 62) rfl ?_)
        refine z_iconst C d_V_cut_62 (z_pc (pc' := 63) rfl ?_)
        refine z_aload_n C d_V_cut_63 rfl (z_pc (pc' := 64) rfl ?_)
        obtain ⟨x23, h24, hf⟩ := zbind hf
        refine z_getr C fl_V_153 rfl h24 d_V_cut_64 (z_pc (pc' := 67) rfl ?_)
        refine z_iload_n C d_V_cut_67 rfl (z_pc (pc' := 68) rfl ?_)
        obtain ⟨x25, h26, hf⟩ := zbind hf
        refine z_iald C h26 d_V_cut_68 (z_pc (pc' := 69) rfl ?_)
        refine z_iadd C d_V_cut_69 (z_pc (pc' := 70) rfl ?_)
        refine z_iadd C d_V_cut_70 (z_pc (pc' := 71) rfl ?_)
        refine z_istore_n C d_V_cut_71 (by decide) (z_pl (pc' := 72) (L' := [some (zv n0 a0), some (zi a1), some (zv n0 v2), some (zi (zadd v3 (zadd 1 x25))), some (zi v4), none]) rfl rfl ?_)
        refine z_iinc C d_V_cut_72 rfl (by decide) (z_pl (pc' := 75) (L' := [some (zv n0 a0), some (zi a1), some (zv n0 v2), some (zi (zadd v3 (zadd 1 x25))), some (zi (zadd v4 1)), none]) rfl rfl ?_)
        refine z_goto (tgt := 21) C d_V_cut_75 (by decide) ?_
        exact z_sub2 (ih _ _ _ _ hf) (And.intro rfl (And.intro rfl (And.intro rfl (And.intro rfl (And.intro rfl trivial)))))
      · have hf := zpos c12 hf
        refine z_aload_n C d_V_cut_35 rfl (z_pc (pc' := 36) rfl ?_)
        obtain ⟨x27, h28, hf⟩ := zbind hf
        refine z_getr C fl_V_85 rfl h28 d_V_cut_36 (z_pc (pc' := 39) rfl ?_)
        refine z_astore_n C d_V_cut_39 (by decide) (z_pl (pc' := 40) (L' := [some (zv n0 a0), some (zi a1), some (zv n0 x27), some (zi v3), some (zi v4), none]) rfl rfl ?_)
        refine z_iconst C d_V_cut_40 (z_pc (pc' := 41) rfl ?_)
        refine z_istore_n C d_V_cut_41 (by decide) (z_pl (pc' := 42) (L' := [some (zv n0 a0), some (zi a1), some (zv n0 x27), some (zi 0), some (zi v4), none]) rfl rfl ?_)
        refine z_aload_n C d_V_cut_42 rfl (z_pc (pc' := 43) rfl ?_)
        refine z_aload_n C d_V_cut_43 rfl (z_pc (pc' := 44) rfl ?_)
        obtain ⟨x29, h30, hf⟩ := zbind hf
        refine z_getr C fl_V_313 rfl h30 d_V_cut_44 (z_pc (pc' := 47) rfl ?_)
        refine z_iload_n C d_V_cut_47 rfl (z_pc (pc' := 48) rfl ?_)
        obtain ⟨x31, h32, hf⟩ := zbind hf
        refine z_iald C h32 d_V_cut_48 (z_pc (pc' := 49) rfl ?_)
        refine z_aload_n C d_V_cut_49 rfl (z_pc (pc' := 50) rfl ?_)
        obtain ⟨x33, h34, hf⟩ := zbind hf
        refine z_getr C fl_V_153 rfl h34 d_V_cut_50 (z_pc (pc' := 53) rfl ?_)
        refine z_iload_n C d_V_cut_53 rfl (z_pc (pc' := 54) rfl ?_)
        obtain ⟨x35, h36, hf⟩ := zbind hf
        refine z_iald C h36 d_V_cut_54 (z_pc (pc' := 55) rfl ?_)
        refine z_iadd C d_V_cut_55 (z_pc (pc' := 56) rfl ?_)
        refine z_iconst C d_V_cut_56 (z_pc (pc' := 57) rfl ?_)
        refine z_isub C d_V_cut_57 (z_pc (pc' := 58) rfl ?_)
        obtain ⟨M37, h38, hf⟩ := zbind hf
        refine z_puti C fp_V_97 (by decide) rfl h38 d_V_cut_58 (z_pc (pc' := 61) rfl ?_)
        refine z_iload_n C d_V_cut_61 rfl (z_pc (pc' := 62) rfl ?_)
        refine z_iconst C d_V_cut_62 (z_pc (pc' := 63) rfl ?_)
        refine z_aload_n C d_V_cut_63 rfl (z_pc (pc' := 64) rfl ?_)
        obtain ⟨x39, h40, hf⟩ := zbind hf
        refine z_getr C fl_V_153 rfl h40 d_V_cut_64 (z_pc (pc' := 67) rfl ?_)
        refine z_iload_n C d_V_cut_67 rfl (z_pc (pc' := 68) rfl ?_)
        obtain ⟨x41, h42, hf⟩ := zbind hf
        refine z_iald C h42 d_V_cut_68 (z_pc (pc' := 69) rfl ?_)
        refine z_iadd C d_V_cut_69 (z_pc (pc' := 70) rfl ?_)
        refine z_iadd C d_V_cut_70 (z_pc (pc' := 71) rfl ?_)
        refine z_istore_n C d_V_cut_71 (by decide) (z_pl (pc' := 72) (L' := [some (zv n0 a0), some (zi a1), some (zv n0 x27), some (zi (zadd 0 (zadd 1 x41))), some (zi v4), none]) rfl rfl ?_)
        refine z_iinc C d_V_cut_72 rfl (by decide) (z_pl (pc' := 75) (L' := [some (zv n0 a0), some (zi a1), some (zv n0 x27), some (zi (zadd 0 (zadd 1 x41))), some (zi (zadd v4 1)), none]) rfl rfl ?_)
        refine z_goto (tgt := 21) C d_V_cut_75 (by decide) ?_
        exact z_sub2 (ih _ _ _ _ hf) (And.intro rfl (And.intro rfl (And.intro rfl (And.intro rfl (And.intro rfl trivial)))))
set_option maxHeartbeats 4000000 in
set_option maxRecDepth 100000 in
theorem w_V_cut_L99 {D : va_G} {n0 : Nat} {l : Launch} {p : Program} {e : Env} {s : State} {m : MethodId} {args : Array Value} {below : List Frame} {meth : Method} {c : Code} {a0 : Nat} {M' : zHp} {κ : zHp → Option (zHp)} (C : zC D n0 p s m meth c b_V_cut 6 "LayerVault") (hr : meth.sig.returnType = none)
    (hκ : ∀ (M1 : zHp), κ M1 = some M' → zZ D n0 p l e { frames := 1, cells := 0, slots := 0, locals := 21 } s m args below meth c 6 0 0 (MQ below (zQc D n0 none M') args s 0 0 (fun q => n0 ≤ q)) 124 [none, none, none, none, none, none] [] M1) :
    ∀ (n : Nat) (v4 : Nat) (M : zHp), f_V_cut_L99 κ a0 n v4 M = some M' → zZ D n0 p l e { frames := 1, cells := 0, slots := 0, locals := 21 } s m args below meth c 6 0 0 (MQ below (zQc D n0 none M') args s 0 0 (fun q => n0 ≤ q)) 99 [some (zv n0 a0), none, none, none, some (zv n0 v4), none] [] M := by
  intro n
  induction n with
  | zero =>
    intro v4 M hf
    exact absurd hf (by unfold f_V_cut_L99; simp)
  | succ n ih =>
    intro v4 M hf
    unfold f_V_cut_L99 at hf
    refine z_aload C d_V_cut_99 rfl (z_pc (pc' := 101) rfl ?_)
    refine z_ifnull (tgt := 124) C d_V_cut_101 (by decide) (fun c54 => ?_) (fun c54 => (z_pc (pc' := 104) rfl ?_))
    · have hf := zpos c54 hf
      exact z_sub2 (hκ _ hf) trivial
    · have hf := zneg c54 hf
      refine z_aload C d_V_cut_104 rfl (z_pc (pc' := 106) rfl ?_)
      obtain ⟨x55, h56, hf⟩ := zbind hf
      refine z_getr C fl_V_85 rfl h56 d_V_cut_106 (z_pc (pc' := 109) rfl ?_)
      refine z_astore C d_V_cut_109 (by decide) (z_pl (pc' := 111) (L' := [some (zv n0 a0), none, none, none, some (zv n0 v4), some (zv n0 x55)]) rfl rfl ?_)
      refine z_aload_n C d_V_cut_111 rfl (z_pc (pc' := 112) rfl ?_)
      refine z_aload C d_V_cut_112 rfl (z_pc (pc' := 114) rfl ?_)
      obtain ⟨M58, h57, hf⟩ := zbind hf
      refine z_callV C [zv n0 v4] [] kv_V_300 (c_V_free D n0 l h57) (e_V_free h57) ⟨(Nat.le_of_ble_eq_true rfl), (Nat.le_of_ble_eq_true rfl)⟩ (Nat.le_of_ble_eq_true rfl) ⟨(Nat.le_of_ble_eq_true rfl), (Nat.le_of_ble_eq_true rfl)⟩ d_V_cut_114 (z_pc (pc' := 117) rfl ?_)
      refine z_aload C d_V_cut_117 rfl (z_pc (pc' := 119) rfl ?_)
      refine z_astore C d_V_cut_119 (by decide) (z_pl (pc' := 121) (L' := [some (zv n0 a0), none, none, none, some (zv n0 x55), some (zv n0 x55)]) rfl rfl ?_)
      refine z_goto (tgt := 99) C d_V_cut_121 (by decide) ?_
      exact z_sub2 (ih _ _ hf) (And.intro rfl (And.intro rfl trivial))
theorem e_V_cut {a0 : Nat} {a1 : Int} {M : zHp} {q : zHp} (hf : f_V_cut a0 a1 M = some q) : zk M a0 = 0 := by
  unfold f_V_cut at hf
  exact (zif hf).1
set_option maxHeartbeats 4000000 in
set_option maxRecDepth 100000 in
theorem c_V_cut (D : va_G) (n0 : Nat) (l : Launch) {a0 : Nat} {a1 : Int} {M : zHp} {M' : zHp} (hf : f_V_cut a0 a1 M = some M') : zM D n0 l y_V_cut b_V_cut 6 none 1 21 0 0 [zv n0 a0, zi a1] M none M' := by
  refine zM.ofZ (by decide) (zcr (zci zcn)) (Nat.le_of_ble_eq_true rfl) ?_
  intro p e s m below meth c C hr hnm
  have C : zC D n0 p s m meth c b_V_cut 6 "LayerVault" := C
  refine z_eqL (L' := [some (zv n0 a0), some (zi a1), none, none, none, none]) rfl ?_
  unfold f_V_cut at hf
  have hf := (zif hf).2
  refine z_aload_n C d_V_cut_0 rfl (z_pc (pc' := 1) rfl ?_)
  obtain ⟨x1, h2, hf⟩ := zbind hf
  refine z_getr C fl_V_23 rfl h2 d_V_cut_1 (z_pc (pc' := 4) rfl ?_)
  refine z_astore_n C d_V_cut_4 (by decide) (z_pl (pc' := 5) (L' := [some (zv n0 a0), some (zi a1), some (zv n0 x1), none, none, none]) rfl rfl ?_)
  refine z_aload_n C d_V_cut_5 rfl (z_pc (pc' := 6) rfl ?_)
  obtain ⟨x3, h4, hf⟩ := zbind hf
  refine z_geti C fl_V_94 h4 d_V_cut_6 (z_pc (pc' := 9) rfl ?_)
  refine z_istore_n C d_V_cut_9 (by decide) (z_pl (pc' := 10) (L' := [some (zv n0 a0), some (zi a1), some (zv n0 x1), some (zi x3), none, none]) rfl rfl ?_)
  refine z_aload_n C d_V_cut_10 rfl (z_pc (pc' := 11) rfl ?_)
  refine z_aload_n C d_V_cut_11 rfl (z_pc (pc' := 12) rfl ?_)
  obtain ⟨x5, h6, hf⟩ := zbind hf
  refine z_geti C fl_V_100 h6 d_V_cut_12 (z_pc (pc' := 15) rfl ?_)
  obtain ⟨M7, h8, hf⟩ := zbind hf
  refine z_puti C fp_V_97 (by decide) rfl h8 d_V_cut_15 (z_pc (pc' := 18) rfl ?_)
  refine z_iconst C d_V_cut_18 (z_pc (pc' := 19) rfl ?_)
  refine z_istore C d_V_cut_19 (by decide) (z_pl (pc' := 21) (L' := [some (zv n0 a0), some (zi a1), some (zv n0 x1), some (zi x3), some (zi 0), none]) rfl rfl ?_)
  refine z_sub2 (w_V_cut_L21 C hr ?_ _ _ _ _ _ hf) (And.intro rfl (And.intro rfl (And.intro rfl (And.intro rfl (And.intro rfl trivial)))))
  intro v43 v44 M45 hf
  refine z_aload_n C d_V_cut_78 rfl (z_pc (pc' := 79) rfl ?_)
  obtain ⟨x46, h47, hf⟩ := zbind hf
  refine z_getr C fl_V_85 rfl h47 d_V_cut_79 (z_pc (pc' := 82) rfl ?_)
  refine z_astore C d_V_cut_82 (by decide) (z_pl (pc' := 84) (L' := [some (zv n0 a0), none, some (zv n0 v43), some (zi v44), some (zv n0 x46), none]) rfl rfl ?_)
  refine z_aload_n C d_V_cut_84 rfl (z_pc (pc' := 85) rfl ?_)
  refine z_iload_n C d_V_cut_85 rfl (z_pc (pc' := 86) rfl ?_)
  obtain ⟨M48, h49, hf⟩ := zbind hf
  refine z_puti C fp_V_79 (by decide) rfl h49 d_V_cut_86 (z_pc (pc' := 89) rfl ?_)
  refine z_aload_n C d_V_cut_89 rfl (z_pc (pc' := 90) rfl ?_)
  refine z_null C d_V_cut_90 (z_pc (pc' := 91) rfl ?_)
  obtain ⟨M50, h51, hf⟩ := zbind hf
  refine z_putr C fp_V_85 rfl (by decide) rfl h51 d_V_cut_91 (z_pc (pc' := 94) rfl ?_)
  refine z_aload_n C d_V_cut_94 rfl (z_pc (pc' := 95) rfl ?_)
  refine z_aload_n C d_V_cut_95 rfl (z_pc (pc' := 96) rfl ?_)
  obtain ⟨M52, h53, hf⟩ := zbind hf
  refine z_putr C fp_V_16 rfl (by decide) rfl h53 d_V_cut_96 (z_pc (pc' := 99) rfl ?_)
  refine z_sub2 (w_V_cut_L99 C hr ?_ _ _ _ hf) (And.intro rfl (And.intro rfl trivial))
  intro M59 hf
  exact z_vret C hr (Nat.le_of_ble_eq_true rfl) (Nat.le_of_ble_eq_true rfl) d_V_cut_124 hf
set_option maxHeartbeats 4000000 in
set_option maxRecDepth 100000 in
theorem w_V_replay_L28 {D : va_G} {n0 : Nat} {l : Launch} {p : Program} {e : Env} {s : State} {m : MethodId} {args : Array Value} {below : List Frame} {meth : Method} {c : Code} {B Bs : Nat} {a0 : Nat} {a1 : Nat} {a2 : Int} {a3 : Int} {a4 : Int} {M' : zHp} {κ : zHp → Option (zHp)} (C : zC D n0 p s m meth c b_V_replay 6 "LayerVault") (hr : meth.sig.returnType = none) (hB : B ≤ 126) (hBs : Bs ≤ 630)
    (hκ : ∀ (M1 : zHp), κ M1 = some M' → zZ D n0 p l e { frames := 3, cells := 126, slots := 630, locals := 70 } s m args below meth c 6 B Bs (MQ below (zQc D n0 none M') args s 126 630 (fun q => n0 ≤ q)) 65 [some (zv n0 a0), some (zv n0 a1), some (zi a2), some (zi a3), none, none] [] M1) :
    ∀ (n cells slots : Nat), cells + n * 2 ≤ B → slots + n * 10 ≤ Bs → ∀ (v5 : Int) (M : zHp), f_V_replay_L28 κ a0 a1 a2 a3 a4 n v5 M = some M' → zZ D n0 p l e { frames := 3, cells := 126, slots := 630, locals := 70 } s m args below meth c 6 cells slots (MQ below (zQc D n0 none M') args s 126 630 (fun q => n0 ≤ q)) 28 [some (zv n0 a0), some (zv n0 a1), some (zi a2), some (zi a3), some (zi a4), some (zi v5)] [] M := by
  intro n
  induction n with
  | zero =>
    intro cells slots hb1 hb2 v5 M hf
    exact absurd hf (by unfold f_V_replay_L28; simp)
  | succ n ih =>
    intro cells slots hb1 hb2 v5 M hf
    unfold f_V_replay_L28 at hf
    refine z_iload C d_V_replay_28 rfl (z_pc (pc' := 30) rfl ?_)
    refine z_iload_n C d_V_replay_30 rfl (z_pc (pc' := 31) rfl ?_)
    refine z_icmp_ge (tgt := 65) C d_V_replay_31 (by decide) (fun c12 => ?_) (fun c12 => z_pc (pc' := 34) rfl ?_)
    · have hf := zpos c12 hf
      exact z_widen (by omega) (by omega) (z_sub2 (hκ _ hf) (And.intro rfl (And.intro rfl (And.intro rfl (And.intro rfl trivial)))))
    · have hf := zneg c12 hf
      refine z_iload C d_V_replay_34 rfl (z_pc (pc' := 36) rfl ?_)
      refine z_aload_n C d_V_replay_36 rfl (z_pc (pc' := 37) rfl ?_)
      obtain ⟨x13, h14, hf⟩ := zbind hf
      refine z_geti C fl_V_269 h14 d_V_replay_37 (z_pc (pc' := 40) rfl ?_)
      refine z_icmp_le (tgt := 65) C d_V_replay_40 (by decide) (fun c15 => ?_) (fun c15 => z_pc (pc' := 43) rfl ?_)
      · have hf := zpos c15 hf
        exact z_widen (by omega) (by omega) (z_sub2 (hκ _ hf) (And.intro rfl (And.intro rfl (And.intro rfl (And.intro rfl trivial)))))
      · have hf := zneg c15 hf
        refine z_aload_n C d_V_replay_43 rfl (z_pc (pc' := 44) rfl ?_)
        refine z_aload_n C d_V_replay_44 rfl (z_pc (pc' := 45) rfl ?_)
        refine z_iload_n C d_V_replay_45 rfl (z_pc (pc' := 46) rfl ?_)
        refine z_iconst C d_V_replay_46 (z_pc (pc' := 47) rfl ?_)
        refine z_iadd C d_V_replay_47 (z_pc (pc' := 48) rfl ?_)
        refine z_iload C d_V_replay_48 rfl (z_pc (pc' := 50) rfl ?_)
        refine z_iadd C d_V_replay_50 (z_pc (pc' := 51) rfl ?_)
        refine z_iload C d_V_replay_51 rfl (z_pc (pc' := 53) rfl ?_)
        refine z_iload C d_V_replay_53 rfl (z_pc (pc' := 55) rfl ?_)
        refine z_iadd C d_V_replay_55 (z_pc (pc' := 56) rfl ?_)
        obtain ⟨M17, h16, hf⟩ := zbind hf
        refine z_callV C [zv n0 a1, zi (zadd (zadd a2 1) v5), zi (zadd a4 v5)] [] kv_V_141 (c_V_remember D n0 l h16) (e_V_remember h16) ⟨(Nat.le_of_ble_eq_true rfl), (Nat.le_of_ble_eq_true rfl)⟩ (Nat.le_of_ble_eq_true rfl) ⟨(by show cells + 2 ≤ 126; omega), (by show slots + 10 ≤ 630; omega)⟩ d_V_replay_56 (z_pc (pc' := 59) rfl ?_)
        refine z_iinc C d_V_replay_59 rfl (by decide) (z_pl (pc' := 62) (L' := [some (zv n0 a0), some (zv n0 a1), some (zi a2), some (zi a3), some (zi a4), some (zi (zadd v5 1))]) rfl rfl ?_)
        refine z_goto (tgt := 28) C d_V_replay_62 (by decide) ?_
        exact z_widen (k := cells + 2) (n := slots + 10) (by omega) (by omega) (z_sub2 (ih (cells + 2) (slots + 10) (by omega) (by omega) _ _ hf) (And.intro rfl (And.intro rfl (And.intro rfl (And.intro rfl (And.intro rfl (And.intro rfl trivial)))))))
set_option maxHeartbeats 4000000 in
set_option maxRecDepth 100000 in
theorem w_V_replay_L2 {D : va_G} {n0 : Nat} {l : Launch} {p : Program} {e : Env} {s : State} {m : MethodId} {args : Array Value} {below : List Frame} {meth : Method} {c : Code} {B Bs : Nat} {a0 : Nat} {a1 : Nat} {M' : zHp} {κ : zHp → Option (zHp)} (C : zC D n0 p s m meth c b_V_replay 6 "LayerVault") (hr : meth.sig.returnType = none) (hB : B ≤ 126) (hBs : Bs ≤ 630)
    (hκ : ∀ (M1 : zHp), κ M1 = some M' → zZ D n0 p l e { frames := 3, cells := 126, slots := 630, locals := 70 } s m args below meth c 6 B Bs (MQ below (zQc D n0 none M') args s 126 630 (fun q => n0 ≤ q)) 74 [none, none, none, none, none, none] [] M1) :
    ∀ (n cells slots : Nat), cells + n * 14 ≤ B → slots + n * 70 ≤ Bs → ∀ (v2 : Int) (M : zHp), f_V_replay_L2 κ a0 a1 n v2 M = some M' → zZ D n0 p l e { frames := 3, cells := 126, slots := 630, locals := 70 } s m args below meth c 6 cells slots (MQ below (zQc D n0 none M') args s 126 630 (fun q => n0 ≤ q)) 2 [some (zv n0 a0), some (zv n0 a1), some (zi v2), none, none, none] [] M := by
  intro n
  induction n with
  | zero =>
    intro cells slots hb1 hb2 v2 M hf
    exact absurd hf (by unfold f_V_replay_L2; simp)
  | succ n ih =>
    intro cells slots hb1 hb2 v2 M hf
    unfold f_V_replay_L2 at hf
    refine z_iload_n C d_V_replay_2 rfl (z_pc (pc' := 3) rfl ?_)
    refine z_aload_n C d_V_replay_3 rfl (z_pc (pc' := 4) rfl ?_)
    obtain ⟨x1, h2, hf⟩ := zbind hf
    refine z_geti C fl_V_79 h2 d_V_replay_4 (z_pc (pc' := 7) rfl ?_)
    refine z_icmp_ge (tgt := 74) C d_V_replay_7 (by decide) (fun c3 => ?_) (fun c3 => z_pc (pc' := 10) rfl ?_)
    · have hf := zpos c3 hf
      exact z_widen (by omega) (by omega) (z_sub2 (hκ _ hf) trivial)
    · have hf := zneg c3 hf
      refine z_aload_n C d_V_replay_10 rfl (z_pc (pc' := 11) rfl ?_)
      obtain ⟨x4, h5, hf⟩ := zbind hf
      refine z_getr C fl_V_153 rfl h5 d_V_replay_11 (z_pc (pc' := 14) rfl ?_)
      refine z_iload_n C d_V_replay_14 rfl (z_pc (pc' := 15) rfl ?_)
      obtain ⟨x6, h7, hf⟩ := zbind hf
      refine z_iald C h7 d_V_replay_15 (z_pc (pc' := 16) rfl ?_)
      refine z_istore_n C d_V_replay_16 (by decide) (z_pl (pc' := 17) (L' := [some (zv n0 a0), some (zv n0 a1), some (zi v2), some (zi x6), none, none]) rfl rfl ?_)
      refine z_aload_n C d_V_replay_17 rfl (z_pc (pc' := 18) rfl ?_)
      obtain ⟨x8, h9, hf⟩ := zbind hf
      refine z_getr C fl_V_313 rfl h9 d_V_replay_18 (z_pc (pc' := 21) rfl ?_)
      refine z_iload_n C d_V_replay_21 rfl (z_pc (pc' := 22) rfl ?_)
      obtain ⟨x10, h11, hf⟩ := zbind hf
      refine z_iald C h11 d_V_replay_22 (z_pc (pc' := 23) rfl ?_)
      refine z_istore C d_V_replay_23 (by decide) (z_pl (pc' := 25) (L' := [some (zv n0 a0), some (zv n0 a1), some (zi v2), some (zi x6), some (zi x10), none]) rfl rfl ?_)
      refine z_iconst C d_V_replay_25 (z_pc (pc' := 26) rfl ?_)
      refine z_istore C d_V_replay_26 (by decide) (z_pl (pc' := 28) (L' := [some (zv n0 a0), some (zv n0 a1), some (zi v2), some (zi x6), some (zi x10), some (zi 0)]) rfl rfl ?_)
      refine z_sub2 (w_V_replay_L28 (B := cells + 14) (Bs := slots + 70) C hr (by show _ ≤ 126; omega) (by show _ ≤ 630; omega) ?_ zf_V_replay_L28 _ _ (by unfold zf_V_replay_L28; omega) (by unfold zf_V_replay_L28; omega) _ _ hf) (And.intro rfl (And.intro rfl (And.intro rfl (And.intro rfl (And.intro rfl (And.intro rfl trivial))))))
      intro M18 hf
      refine z_iload_n C d_V_replay_65 rfl (z_pc (pc' := 66) rfl ?_)
      refine z_iconst C d_V_replay_66 (z_pc (pc' := 67) rfl ?_)
      refine z_iload_n C d_V_replay_67 rfl (z_pc (pc' := 68) rfl ?_)
      refine z_iadd C d_V_replay_68 (z_pc (pc' := 69) rfl ?_)
      refine z_iadd C d_V_replay_69 (z_pc (pc' := 70) rfl ?_)
      refine z_istore_n C d_V_replay_70 (by decide) (z_pl (pc' := 71) (L' := [some (zv n0 a0), some (zv n0 a1), some (zi (zadd v2 (zadd 1 x6))), some (zi x6), none, none]) rfl rfl ?_)
      refine z_goto (tgt := 2) C d_V_replay_71 (by decide) ?_
      exact z_widen (k := cells + 14) (n := slots + 70) (by omega) (by omega) (z_sub2 (ih (cells + 14) (slots + 70) (by omega) (by omega) _ _ hf) (And.intro rfl (And.intro rfl (And.intro rfl trivial))))
theorem e_V_replay {a0 : Nat} {a1 : Nat} {M : zHp} {q : zHp} (hf : f_V_replay a0 a1 M = some q) : zk M a0 = 0 := by
  unfold f_V_replay at hf
  exact (zif hf).1
set_option maxHeartbeats 4000000 in
set_option maxRecDepth 100000 in
theorem c_V_replay (D : va_G) (n0 : Nat) (l : Launch) {a0 : Nat} {a1 : Nat} {M : zHp} {M' : zHp} (hf : f_V_replay a0 a1 M = some M') : zM D n0 l y_V_replay b_V_replay 6 none 3 70 126 630 [zv n0 a0, zv n0 a1] M none M' := by
  refine zM.ofZ (by decide) (zcr (zcr zcn)) (Nat.le_of_ble_eq_true rfl) ?_
  intro p e s m below meth c C hr hnm
  have C : zC D n0 p s m meth c b_V_replay 6 "LayerVault" := C
  refine z_eqL (L' := [some (zv n0 a0), some (zv n0 a1), none, none, none, none]) rfl ?_
  unfold f_V_replay at hf
  have hf := (zif hf).2
  refine z_iconst C d_V_replay_0 (z_pc (pc' := 1) rfl ?_)
  refine z_istore_n C d_V_replay_1 (by decide) (z_pl (pc' := 2) (L' := [some (zv n0 a0), some (zv n0 a1), some (zi 0), none, none, none]) rfl rfl ?_)
  refine z_sub2 (w_V_replay_L2 (B := 126) (Bs := 630) C hr (Nat.le_of_ble_eq_true rfl) (Nat.le_of_ble_eq_true rfl) ?_ zf_V_replay_L2 _ _ (by decide) (by decide) _ _ hf) (And.intro rfl (And.intro rfl (And.intro rfl trivial)))
  intro M19 hf
  exact z_vret C hr (Nat.le_of_ble_eq_true rfl) (Nat.le_of_ble_eq_true rfl) d_V_replay_74 hf
set_option maxHeartbeats 4000000 in
set_option maxRecDepth 100000 in
theorem w_V_crash_L23 {D : va_G} {n0 : Nat} {l : Launch} {p : Program} {e : Env} {s : State} {m : MethodId} {args : Array Value} {below : List Frame} {meth : Method} {c : Code} {cells slots : Nat} {a0 : Nat} {a2 : Int} {a3 : Int} {r : Int} {M' : zHp} {κ : zHp → Option (Int × zHp)} (C : zC D n0 p s m meth c b_V_crash 5 "LayerVault") (hr : meth.sig.returnType = (some .int)) (hB : cells ≤ 1134) (hBs : slots ≤ 5670)
    (hκ : ∀ (M1 : zHp), κ M1 = some (r, M') → zZ D n0 p l e { frames := 4, cells := 1134, slots := 5670, locals := 95 } s m args below meth c 5 cells slots (MQ below (zQc D n0 (some (zi r)) M') args s 1134 5670 (fun q => n0 ≤ q)) 43 [some (zv n0 a0), none, some (zi a2), some (zi a3), none] [] M1) :
    ∀ (n : Nat) (v4 : Int) (M : zHp), f_V_crash_L23 κ a0 n v4 M = some (r, M') → zZ D n0 p l e { frames := 4, cells := 1134, slots := 5670, locals := 95 } s m args below meth c 5 cells slots (MQ below (zQc D n0 (some (zi r)) M') args s 1134 5670 (fun q => n0 ≤ q)) 23 [some (zv n0 a0), none, some (zi a2), some (zi a3), some (zi v4)] [] M := by
  intro n
  induction n with
  | zero =>
    intro v4 M hf
    exact absurd hf (by unfold f_V_crash_L23; simp)
  | succ n ih =>
    intro v4 M hf
    unfold f_V_crash_L23 at hf
    refine z_iload C d_V_crash_23 rfl (z_pc (pc' := 25) rfl ?_)
    refine z_iconst C d_V_crash_25 (z_pc (pc' := 26) rfl ?_)
    refine z_icmp_ge (tgt := 43) C d_V_crash_26 (by decide) (fun c5 => ?_) (fun c5 => z_pc (pc' := 29) rfl ?_)
    · have hf := zpos c5 hf
      exact z_sub2 (hκ _ hf) (And.intro rfl (And.intro rfl (And.intro rfl trivial)))
    · have hf := zneg c5 hf
      refine z_aload_n C d_V_crash_29 rfl (z_pc (pc' := 30) rfl ?_)
      obtain ⟨x6, h7, hf⟩ := zbind hf
      refine z_getr C fl_V_36 rfl h7 d_V_crash_30 (z_pc (pc' := 33) rfl ?_)
      refine z_iload C d_V_crash_33 rfl (z_pc (pc' := 35) rfl ?_)
      refine z_iconst C d_V_crash_35 (z_pc (pc' := 36) rfl ?_)
      obtain ⟨M8, h9, hf⟩ := zbind hf
      refine z_iast C h9 d_V_crash_36 (z_pc (pc' := 37) rfl ?_)
      refine z_iinc C d_V_crash_37 rfl (by decide) (z_pl (pc' := 40) (L' := [some (zv n0 a0), none, some (zi a2), some (zi a3), some (zi (zadd v4 1))]) rfl rfl ?_)
      refine z_goto (tgt := 23) C d_V_crash_40 (by decide) ?_
      exact z_sub2 (ih _ _ hf) (And.intro rfl (And.intro rfl (And.intro rfl (And.intro rfl trivial))))
set_option maxHeartbeats 4000000 in
set_option maxRecDepth 100000 in
theorem w_V_crash_L79 {D : va_G} {n0 : Nat} {l : Launch} {p : Program} {e : Env} {s : State} {m : MethodId} {args : Array Value} {below : List Frame} {meth : Method} {c : Code} {cells slots : Nat} {a0 : Nat} {a3 : Int} {r : Int} {M' : zHp} {κ : zHp → Option (Int × zHp)} (C : zC D n0 p s m meth c b_V_crash 5 "LayerVault") (hr : meth.sig.returnType = (some .int)) (hB : cells ≤ 1134) (hBs : slots ≤ 5670)
    (hκ : ∀ (M1 : zHp), κ M1 = some (r, M') → zZ D n0 p l e { frames := 4, cells := 1134, slots := 5670, locals := 95 } s m args below meth c 5 cells slots (MQ below (zQc D n0 (some (zi r)) M') args s 1134 5670 (fun q => n0 ≤ q)) 105 [some (zv n0 a0), none, none, some (zi a3), none] [] M1) :
    ∀ (n : Nat) (v4 : Int) (M : zHp), f_V_crash_L79 κ a0 n v4 M = some (r, M') → zZ D n0 p l e { frames := 4, cells := 1134, slots := 5670, locals := 95 } s m args below meth c 5 cells slots (MQ below (zQc D n0 (some (zi r)) M') args s 1134 5670 (fun q => n0 ≤ q)) 79 [some (zv n0 a0), none, none, some (zi a3), some (zi v4)] [] M := by
  intro n
  induction n with
  | zero =>
    intro v4 M hf
    exact absurd hf (by unfold f_V_crash_L79; simp)
  | succ n ih =>
    intro v4 M hf
    unfold f_V_crash_L79 at hf
    refine z_iload C d_V_crash_79 rfl (z_pc (pc' := 81) rfl ?_)
    refine z_aload_n C d_V_crash_81 rfl (z_pc (pc' := 82) rfl ?_)
    obtain ⟨x27, h28, hf⟩ := zbind hf
    refine z_geti C fl_V_181 h28 d_V_crash_82 (z_pc (pc' := 85) rfl ?_)
    refine z_icmp_ge (tgt := 105) C d_V_crash_85 (by decide) (fun c29 => ?_) (fun c29 => z_pc (pc' := 88) rfl ?_)
    · have hf := zpos c29 hf
      exact z_sub2 (hκ _ hf) (And.intro rfl (And.intro rfl trivial))
    · have hf := zneg c29 hf
      refine z_aload_n C d_V_crash_88 rfl (z_pc (pc' := 89) rfl ?_)
      refine z_aload_n C d_V_crash_89 rfl (z_pc (pc' := 90) rfl ?_)
      obtain ⟨x30, h31, hf⟩ := zbind hf
      refine z_getr C fl_V_67 rfl h31 d_V_crash_90 (z_pc (pc' := 93) rfl ?_)
      refine z_iload C d_V_crash_93 rfl (z_pc (pc' := 95) rfl ?_)
      obtain ⟨x32, h33, hf⟩ := zbind hf
      refine z_aald C (by decide) h33 d_V_crash_95 (z_pc (pc' := 96) rfl ?_)
      obtain ⟨M35, h34, hf⟩ := zbind hf
      refine z_callV C [zv n0 x32] [] kv_V_218 (c_V_drop D n0 l h34) (e_V_drop h34) ⟨(Nat.le_of_ble_eq_true rfl), (Nat.le_of_ble_eq_true rfl)⟩ (Nat.le_of_ble_eq_true rfl) ⟨(by show cells + 0 ≤ 1134; omega), (by show slots + 0 ≤ 5670; omega)⟩ d_V_crash_96 (z_pc (pc' := 99) rfl ?_)
      refine z_iinc C d_V_crash_99 rfl (by decide) (z_pl (pc' := 102) (L' := [some (zv n0 a0), none, none, some (zi a3), some (zi (zadd v4 1))]) rfl rfl ?_)
      refine z_goto (tgt := 79) C d_V_crash_102 (by decide) ?_
      exact z_sub2 (ih _ _ hf) (And.intro rfl (And.intro rfl (And.intro rfl trivial)))
set_option maxHeartbeats 4000000 in
set_option maxRecDepth 100000 in
theorem w_V_crash_L111 {D : va_G} {n0 : Nat} {l : Launch} {p : Program} {e : Env} {s : State} {m : MethodId} {args : Array Value} {below : List Frame} {meth : Method} {c : Code} {B Bs : Nat} {a0 : Nat} {a3 : Int} {r : Int} {M' : zHp} {κ : zHp → Option (Int × zHp)} (C : zC D n0 p s m meth c b_V_crash 5 "LayerVault") (hr : meth.sig.returnType = (some .int)) (hB : B ≤ 1134) (hBs : Bs ≤ 5670)
    (hκ : ∀ (M1 : zHp), κ M1 = some (r, M') → zZ D n0 p l e { frames := 4, cells := 1134, slots := 5670, locals := 95 } s m args below meth c 5 B Bs (MQ below (zQc D n0 (some (zi r)) M') args s 1134 5670 (fun q => n0 ≤ q)) 132 [some (zv n0 a0), none, none, some (zi a3), none] [] M1) :
    ∀ (n cells slots : Nat), cells + n * 126 ≤ B → slots + n * 630 ≤ Bs → ∀ (v4 : Nat) (M : zHp), f_V_crash_L111 κ a0 n v4 M = some (r, M') → zZ D n0 p l e { frames := 4, cells := 1134, slots := 5670, locals := 95 } s m args below meth c 5 cells slots (MQ below (zQc D n0 (some (zi r)) M') args s 1134 5670 (fun q => n0 ≤ q)) 111 [some (zv n0 a0), none, none, some (zi a3), some (zv n0 v4)] [] M := by
  intro n
  induction n with
  | zero =>
    intro cells slots hb1 hb2 v4 M hf
    exact absurd hf (by unfold f_V_crash_L111; simp)
  | succ n ih =>
    intro cells slots hb1 hb2 v4 M hf
    unfold f_V_crash_L111 at hf
    refine z_aload C d_V_crash_111 rfl (z_pc (pc' := 113) rfl ?_)
    refine z_ifnull (tgt := 132) C d_V_crash_113 (by decide) (fun c39 => ?_) (fun c39 => (z_pc (pc' := 116) rfl ?_))
    · have hf := zpos c39 hf
      exact z_widen (by omega) (by omega) (z_sub2 (hκ _ hf) (And.intro rfl (And.intro rfl trivial)))
    · have hf := zneg c39 hf
      refine z_aload_n C d_V_crash_116 rfl (z_pc (pc' := 117) rfl ?_)
      refine z_aload C d_V_crash_117 rfl (z_pc (pc' := 119) rfl ?_)
      obtain ⟨M41, h40, hf⟩ := zbind hf
      refine z_callV C [zv n0 v4] [] kv_V_310 (c_V_replay D n0 l h40) (e_V_replay h40) ⟨(Nat.le_of_ble_eq_true rfl), (Nat.le_of_ble_eq_true rfl)⟩ (Nat.le_of_ble_eq_true rfl) ⟨(by show cells + 126 ≤ 1134; omega), (by show slots + 630 ≤ 5670; omega)⟩ d_V_crash_119 (z_pc (pc' := 122) rfl ?_)
      refine z_aload C d_V_crash_122 rfl (z_pc (pc' := 124) rfl ?_)
      obtain ⟨x42, h43, hf⟩ := zbind hf
      refine z_getr C fl_V_85 rfl h43 d_V_crash_124 (z_pc (pc' := 127) rfl ?_)
      refine z_astore C d_V_crash_127 (by decide) (z_pl (pc' := 129) (L' := [some (zv n0 a0), none, none, some (zi a3), some (zv n0 x42)]) rfl rfl ?_)
      refine z_goto (tgt := 111) C d_V_crash_129 (by decide) ?_
      exact z_widen (k := cells + 126) (n := slots + 630) (by omega) (by omega) (z_sub2 (ih (cells + 126) (slots + 630) (by omega) (by omega) _ _ hf) (And.intro rfl (And.intro rfl (And.intro rfl trivial))))
theorem e_V_crash {a0 : Nat} {a1 : Int} {M : zHp} {q : Int × zHp} (hf : f_V_crash a0 a1 M = some q) : zk M a0 = 0 := by
  unfold f_V_crash at hf
  exact (zif hf).1
set_option maxHeartbeats 4000000 in
set_option maxRecDepth 100000 in
theorem c_V_crash (D : va_G) (n0 : Nat) (l : Launch) {a0 : Nat} {a1 : Int} {M : zHp} {r : Int} {M' : zHp} (hf : f_V_crash a0 a1 M = some (r, M')) : zM D n0 l y_V_crash b_V_crash 5 (some .int) 4 95 1134 5670 [zv n0 a0, zi a1] M (some (zi r)) M' := by
  refine zM.ofZ (by decide) (zcr (zci zcn)) (Nat.le_of_ble_eq_true rfl) ?_
  intro p e s m below meth c C hr hnm
  have C : zC D n0 p s m meth c b_V_crash 5 "LayerVault" := C
  refine z_eqL (L' := [some (zv n0 a0), some (zi a1), none, none, none]) rfl ?_
  unfold f_V_crash at hf
  have hf := (zif hf).2
  refine z_iconst C d_V_crash_0 (z_pc (pc' := 1) rfl ?_)
  refine z_iload_n C d_V_crash_1 rfl (z_pc (pc' := 2) rfl ?_)
  refine z_aload_n C d_V_crash_2 rfl (z_pc (pc' := 3) rfl ?_)
  obtain ⟨x1, h2, hf⟩ := zbind hf
  refine z_geti C fl_V_103 h2 d_V_crash_3 (z_pc (pc' := 6) rfl ?_)
  refine z_mmin C km_V_281 km_st_min km_ini km_code_min ⟨(Nat.le_of_ble_eq_true rfl), (Nat.le_of_ble_eq_true rfl)⟩ (Nat.le_of_ble_eq_true rfl) ⟨(Nat.le_of_ble_eq_true rfl), (Nat.le_of_ble_eq_true rfl)⟩ d_V_crash_6 (z_pc (pc' := 9) rfl ?_)
  refine z_mmax C km_V_304 km_st_max km_ini km_code_max ⟨(Nat.le_of_ble_eq_true rfl), (Nat.le_of_ble_eq_true rfl)⟩ (Nat.le_of_ble_eq_true rfl) ⟨(Nat.le_of_ble_eq_true rfl), (Nat.le_of_ble_eq_true rfl)⟩ d_V_crash_9 (z_pc (pc' := 12) rfl ?_)
  refine z_istore_n C d_V_crash_12 (by decide) (z_pl (pc' := 13) (L' := [some (zv n0 a0), some (zi a1), some (zi (zmax 0 (zmin a1 x1))), none, none]) rfl rfl ?_)
  refine z_aload_n C d_V_crash_13 rfl (z_pc (pc' := 14) rfl ?_)
  obtain ⟨x3, h4, hf⟩ := zbind hf
  refine z_geti C fl_V_103 h4 d_V_crash_14 (z_pc (pc' := 17) rfl ?_)
  refine z_iload_n C d_V_crash_17 rfl (z_pc (pc' := 18) rfl ?_)
  refine z_isub C d_V_crash_18 (z_pc (pc' := 19) rfl ?_)
  refine z_istore_n C d_V_crash_19 (by decide) (z_pl (pc' := 20) (L' := [some (zv n0 a0), some (zi a1), some (zi (zmax 0 (zmin a1 x1))), some (zi (zsub x3 (zmax 0 (zmin a1 x1)))), none]) rfl rfl ?_)
  refine z_iconst C d_V_crash_20 (z_pc (pc' := 21) rfl ?_)
  refine z_istore C d_V_crash_21 (by decide) (z_pl (pc' := 23) (L' := [some (zv n0 a0), some (zi a1), some (zi (zmax 0 (zmin a1 x1))), some (zi (zsub x3 (zmax 0 (zmin a1 x1)))), some (zi 0)]) rfl rfl ?_)
  refine z_sub2 (w_V_crash_L23 C hr (Nat.le_of_ble_eq_true rfl) (Nat.le_of_ble_eq_true rfl) ?_ _ _ _ hf) (And.intro rfl (And.intro rfl (And.intro rfl (And.intro rfl trivial))))
  intro M10 hf
  refine z_aload_n C d_V_crash_43 rfl (z_pc (pc' := 44) rfl ?_)
  refine z_iconst C d_V_crash_44 (z_pc (pc' := 45) rfl ?_)
  obtain ⟨M11, h12, hf⟩ := zbind hf
  refine z_puti C fp_V_109 (by decide) rfl h12 d_V_crash_45 (z_pc (pc' := 48) rfl ?_)
  refine z_aload_n C d_V_crash_48 rfl (z_pc (pc' := 49) rfl ?_)
  refine z_iload_n C d_V_crash_49 rfl (z_pc (pc' := 50) rfl ?_)
  obtain ⟨M14, h13, hf⟩ := zbind hf
  refine z_callV C [zi (zmax 0 (zmin a1 x1))] [] kv_V_307 (c_V_cut D n0 l h13) (e_V_cut h13) ⟨(Nat.le_of_ble_eq_true rfl), (Nat.le_of_ble_eq_true rfl)⟩ (Nat.le_of_ble_eq_true rfl) ⟨(Nat.le_of_ble_eq_true rfl), (Nat.le_of_ble_eq_true rfl)⟩ d_V_crash_50 (z_pc (pc' := 53) rfl ?_)
  refine z_aload_n C d_V_crash_53 rfl (z_pc (pc' := 54) rfl ?_)
  obtain ⟨x15, h16, hf⟩ := zbind hf
  refine z_getr C fl_V_42 rfl h16 d_V_crash_54 (z_pc (pc' := 57) rfl ?_)
  refine z_iconst C d_V_crash_57 (z_pc (pc' := 58) rfl ?_)
  obtain ⟨M18, h17, hf⟩ := zbind hf
  refine z_callV C [zi 0] [] kv_V_266 (c_Mt_begin D n0 l h17) (e_Mt_begin h17) ⟨(Nat.le_of_ble_eq_true rfl), (Nat.le_of_ble_eq_true rfl)⟩ (Nat.le_of_ble_eq_true rfl) ⟨(Nat.le_of_ble_eq_true rfl), (Nat.le_of_ble_eq_true rfl)⟩ d_V_crash_58 (z_pc (pc' := 61) rfl ?_)
  refine z_aload_n C d_V_crash_61 rfl (z_pc (pc' := 62) rfl ?_)
  refine z_aload_n C d_V_crash_62 rfl (z_pc (pc' := 63) rfl ?_)
  obtain ⟨x19, h20, hf⟩ := zbind hf
  refine z_getr C fl_V_42 rfl h20 d_V_crash_63 (z_pc (pc' := 66) rfl ?_)
  obtain ⟨M22, h21, hf⟩ := zbind hf
  refine z_callV C [zv n0 x19] [] kv_V_242 (c_V_gather D n0 l h21) (e_V_gather h21) ⟨(Nat.le_of_ble_eq_true rfl), (Nat.le_of_ble_eq_true rfl)⟩ (Nat.le_of_ble_eq_true rfl) ⟨(Nat.le_of_ble_eq_true rfl), (Nat.le_of_ble_eq_true rfl)⟩ d_V_crash_66 (z_pc (pc' := 69) rfl ?_)
  refine z_aload_n C d_V_crash_69 rfl (z_pc (pc' := 70) rfl ?_)
  obtain ⟨x23, h24, hf⟩ := zbind hf
  refine z_getr C fl_V_42 rfl h24 d_V_crash_70 (z_pc (pc' := 73) rfl ?_)
  obtain ⟨M26, h25, hf⟩ := zbind hf
  refine z_callV C [] [] kv_V_267 (c_Mt_clear D n0 l h25) (e_Mt_clear h25) ⟨(Nat.le_of_ble_eq_true rfl), (Nat.le_of_ble_eq_true rfl)⟩ (Nat.le_of_ble_eq_true rfl) ⟨(Nat.le_of_ble_eq_true rfl), (Nat.le_of_ble_eq_true rfl)⟩ d_V_crash_73 (z_pc (pc' := 76) rfl ?_)
  refine z_iconst C d_V_crash_76 (z_pc (pc' := 77) rfl ?_)
  refine z_istore C d_V_crash_77 (by decide) (z_pl (pc' := 79) (L' := [some (zv n0 a0), none, some (zi (zmax 0 (zmin a1 x1))), some (zi (zsub x3 (zmax 0 (zmin a1 x1)))), some (zi 0)]) rfl rfl ?_)
  refine z_sub2 (w_V_crash_L79 C hr (Nat.le_of_ble_eq_true rfl) (Nat.le_of_ble_eq_true rfl) ?_ _ _ _ hf) (And.intro rfl (And.intro rfl (And.intro rfl trivial)))
  intro M36 hf
  refine z_aload_n C d_V_crash_105 rfl (z_pc (pc' := 106) rfl ?_)
  obtain ⟨x37, h38, hf⟩ := zbind hf
  refine z_getr C fl_V_10 rfl h38 d_V_crash_106 (z_pc (pc' := 109) rfl ?_)
  refine z_astore C d_V_crash_109 (by decide) (z_pl (pc' := 111) (L' := [some (zv n0 a0), none, none, some (zi (zsub x3 (zmax 0 (zmin a1 x1)))), some (zv n0 x37)]) rfl rfl ?_)
  refine z_sub2 (w_V_crash_L111 (B := 1134) (Bs := 5670) C hr (Nat.le_of_ble_eq_true rfl) (Nat.le_of_ble_eq_true rfl) ?_ zf_V_crash_L111 _ _ (by decide) (by decide) _ _ hf) (And.intro rfl (And.intro rfl (And.intro rfl trivial)))
  intro M44 hf
  refine z_aload_n C d_V_crash_132 rfl (z_pc (pc' := 133) rfl ?_)
  obtain ⟨M46, h45, hf⟩ := zbind hf
  refine z_callV C [] [] kv_V_106 (c_V_syncAll D n0 l h45) (e_V_syncAll h45) ⟨(Nat.le_of_ble_eq_true rfl), (Nat.le_of_ble_eq_true rfl)⟩ (Nat.le_of_ble_eq_true rfl) ⟨(Nat.le_of_ble_eq_true rfl), (Nat.le_of_ble_eq_true rfl)⟩ d_V_crash_133 (z_pc (pc' := 136) rfl ?_)
  refine z_iload_n C d_V_crash_136 rfl (z_pc (pc' := 137) rfl ?_)
  exact z_iret C hr (Nat.le_of_ble_eq_true rfl) (Nat.le_of_ble_eq_true rfl) d_V_crash_137 hf
theorem e_V_isSnapshot {a0 : Nat} {a1 : Int} {M : zHp} {q : Int × zHp} (hf : f_V_isSnapshot a0 a1 M = some q) : zk M a0 = 0 := by
  unfold f_V_isSnapshot at hf
  exact (zif hf).1
set_option maxHeartbeats 4000000 in
set_option maxRecDepth 100000 in
theorem c_V_isSnapshot (D : va_G) (n0 : Nat) (l : Launch) {a0 : Nat} {a1 : Int} {M : zHp} {r : Int} {M' : zHp} (hf : f_V_isSnapshot a0 a1 M = some (r, M')) : zM D n0 l y_V_isSnapshot b_V_isSnapshot 2 (some .boolean) 0 0 0 0 [zv n0 a0, zi a1] M (some (zi r)) M' := by
  refine zM.ofZ (by decide) (zcr (zci zcn)) (Nat.le_of_ble_eq_true rfl) ?_
  intro p e s m below meth c C hr hnm
  have C : zC D n0 p s m meth c b_V_isSnapshot 2 "LayerVault" := C
  refine z_eqL (L' := [some (zv n0 a0), some (zi a1)]) rfl ?_
  unfold f_V_isSnapshot at hf
  have hf := (zif hf).2
  refine z_iload_n C d_V_isSnapshot_0 rfl (z_pc (pc' := 1) rfl ?_)
  refine z_iconst C d_V_isSnapshot_1 (z_pc (pc' := 2) rfl ?_)
  refine z_icmp_eq (tgt := 23) C d_V_isSnapshot_2 (by decide) (fun c1 => ?_) (fun c1 => z_pc (pc' := 5) rfl ?_)
  · have hf := zpos c1 hf
    refine z_iconst C d_V_isSnapshot_23 (z_pc (pc' := 24) rfl ?_)
    refine z_goto (tgt := 28) C d_V_isSnapshot_24 (by decide) ?_
    exact z_zret C hr rfl (Nat.le_of_ble_eq_true rfl) (Nat.le_of_ble_eq_true rfl) d_V_isSnapshot_28 hf
  · have hf := zneg c1 hf
    refine z_iload_n C d_V_isSnapshot_5 rfl (z_pc (pc' := 6) rfl ?_)
    refine z_if_lt (tgt := 27) C d_V_isSnapshot_6 (by decide) (fun c2 => ?_) (fun c2 => z_pc (pc' := 9) rfl ?_)
    · have hf := zpos c2 hf
      refine z_iconst C d_V_isSnapshot_27 (z_pc (pc' := 28) rfl ?_)
      exact z_zret C hr rfl (Nat.le_of_ble_eq_true rfl) (Nat.le_of_ble_eq_true rfl) d_V_isSnapshot_28 hf
    · have hf := zneg c2 hf
      refine z_iload_n C d_V_isSnapshot_9 rfl (z_pc (pc' := 10) rfl ?_)
      refine z_iconst C d_V_isSnapshot_10 (z_pc (pc' := 11) rfl ?_)
      refine z_icmp_ge (tgt := 27) C d_V_isSnapshot_11 (by decide) (fun c3 => ?_) (fun c3 => z_pc (pc' := 14) rfl ?_)
      · have hf := zpos c3 hf
        refine z_iconst C d_V_isSnapshot_27 (z_pc (pc' := 28) rfl ?_)
        exact z_zret C hr rfl (Nat.le_of_ble_eq_true rfl) (Nat.le_of_ble_eq_true rfl) d_V_isSnapshot_28 hf
      · have hf := zneg c3 hf
        refine z_aload_n C d_V_isSnapshot_14 rfl (z_pc (pc' := 15) rfl ?_)
        obtain ⟨x4, h5, hf⟩ := zbind hf
        refine z_getr C fl_V_36 rfl h5 d_V_isSnapshot_15 (z_pc (pc' := 18) rfl ?_)
        refine z_iload_n C d_V_isSnapshot_18 rfl (z_pc (pc' := 19) rfl ?_)
        obtain ⟨x6, h7, hf⟩ := zbind hf
        refine z_iald C h7 d_V_isSnapshot_19 (z_pc (pc' := 20) rfl ?_)
        refine z_if_lt (tgt := 27) C d_V_isSnapshot_20 (by decide) (fun c8 => ?_) (fun c8 => z_pc (pc' := 23) rfl ?_)
        · have hf := zpos c8 hf
          refine z_iconst C d_V_isSnapshot_27 (z_pc (pc' := 28) rfl ?_)
          exact z_zret C hr rfl (Nat.le_of_ble_eq_true rfl) (Nat.le_of_ble_eq_true rfl) d_V_isSnapshot_28 hf
        · have hf := zneg c8 hf
          refine z_iconst C d_V_isSnapshot_23 (z_pc (pc' := 24) rfl ?_)
          refine z_goto (tgt := 28) C d_V_isSnapshot_24 (by decide) ?_
          exact z_zret C hr rfl (Nat.le_of_ble_eq_true rfl) (Nat.le_of_ble_eq_true rfl) d_V_isSnapshot_28 hf
theorem e_V_sees {a0 : Nat} {a1 : Int} {M : zHp} {q : Int × zHp} (hf : f_V_sees a0 a1 M = some q) : zk M a0 = 0 := by
  unfold f_V_sees at hf
  exact (zif hf).1
set_option maxHeartbeats 4000000 in
set_option maxRecDepth 100000 in
theorem c_V_sees (D : va_G) (n0 : Nat) (l : Launch) {a0 : Nat} {a1 : Int} {M : zHp} {r : Int} {M' : zHp} (hf : f_V_sees a0 a1 M = some (r, M')) : zM D n0 l y_V_sees b_V_sees 2 (some .int) 0 0 0 0 [zv n0 a0, zi a1] M (some (zi r)) M' := by
  refine zM.ofZ (by decide) (zcr (zci zcn)) (Nat.le_of_ble_eq_true rfl) ?_
  intro p e s m below meth c C hr hnm
  have C : zC D n0 p s m meth c b_V_sees 2 "LayerVault" := C
  refine z_eqL (L' := [some (zv n0 a0), some (zi a1)]) rfl ?_
  unfold f_V_sees at hf
  have hf := (zif hf).2
  refine z_iload_n C d_V_sees_0 rfl (z_pc (pc' := 1) rfl ?_)
  refine z_if_ge (tgt := 10) C d_V_sees_1 (by decide) (fun c1 => ?_) (fun c1 => z_pc (pc' := 4) rfl ?_)
  · have hf := zpos c1 hf
    refine z_aload_n C d_V_sees_10 rfl (z_pc (pc' := 11) rfl ?_)
    obtain ⟨x2, h3, hf⟩ := zbind hf
    refine z_getr C fl_V_36 rfl h3 d_V_sees_11 (z_pc (pc' := 14) rfl ?_)
    refine z_iload_n C d_V_sees_14 rfl (z_pc (pc' := 15) rfl ?_)
    obtain ⟨x4, h5, hf⟩ := zbind hf
    refine z_iald C h5 d_V_sees_15 (z_pc (pc' := 16) rfl ?_)
    exact z_iret C hr (Nat.le_of_ble_eq_true rfl) (Nat.le_of_ble_eq_true rfl) d_V_sees_16 hf
  · have hf := zneg c1 hf
    refine z_ldcw C kc_V_317 d_V_sees_4 (z_pc (pc' := 7) rfl ?_)
    refine z_goto (tgt := 16) C d_V_sees_7 (by decide) ?_
    exact z_iret C hr (Nat.le_of_ble_eq_true rfl) (Nat.le_of_ble_eq_true rfl) d_V_sees_16 hf
set_option maxHeartbeats 4000000 in
set_option maxRecDepth 100000 in
theorem w_V_search_L39 {D : va_G} {n0 : Nat} {l : Launch} {p : Program} {e : Env} {s : State} {m : MethodId} {args : Array Value} {below : List Frame} {meth : Method} {c : Code} {a0 : Nat} {a2 : Int} {a3 : Int} {a5 : Int} {r : Nat} {M' : zHp} {κ : Nat → zHp → Option (Nat × zHp)} (C : zC D n0 p s m meth c b_V_search 8 "LayerVault") (hr : meth.sig.returnType = (some (.object "LayerVault$Entry")))
    (hκ : ∀ (u4 : Nat) (M1 : zHp), κ u4 M1 = some (r, M') → zZ D n0 p l e { frames := 3, cells := 0, slots := 0, locals := 70 } s m args below meth c 8 0 0 (MQ below (zQc D n0 (some (zv n0 r)) M') args s 0 0 (fun q => n0 ≤ q)) 111 [some (zv n0 a0), none, some (zi a2), some (zi a3), some (zv n0 u4), some (zi a5), none, none] [] M1) :
    ∀ (n : Nat) (v4 : Nat) (v6 : Int) (M : zHp), f_V_search_L39 κ a0 a2 a3 a5 n v4 v6 M = some (r, M') → zZ D n0 p l e { frames := 3, cells := 0, slots := 0, locals := 70 } s m args below meth c 8 0 0 (MQ below (zQc D n0 (some (zv n0 r)) M') args s 0 0 (fun q => n0 ≤ q)) 39 [some (zv n0 a0), none, some (zi a2), some (zi a3), some (zv n0 v4), some (zi a5), some (zi v6), none] [] M := by
  intro n
  induction n with
  | zero =>
    intro v4 v6 M hf
    exact absurd hf (by unfold f_V_search_L39; simp)
  | succ n ih =>
    intro v4 v6 M hf
    unfold f_V_search_L39 at hf
    refine z_iload C d_V_search_39 rfl (z_pc (pc' := 41) rfl ?_)
    refine z_aload_n C d_V_search_41 rfl (z_pc (pc' := 42) rfl ?_)
    obtain ⟨x13, h14, hf⟩ := zbind hf
    refine z_getr C fl_V_48 rfl h14 d_V_search_42 (z_pc (pc' := 45) rfl ?_)
    refine z_iload C d_V_search_45 rfl (z_pc (pc' := 47) rfl ?_)
    obtain ⟨x15, h16, hf⟩ := zbind hf
    refine z_aald C (by decide) h16 d_V_search_47 (z_pc (pc' := 48) rfl ?_)
    obtain ⟨x17, h18, hf⟩ := zbind hf
    refine z_geti C fl_V_213 h18 d_V_search_48 (z_pc (pc' := 51) rfl ?_)
    refine z_icmp_ge (tgt := 111) C d_V_search_51 (by decide) (fun c19 => ?_) (fun c19 => z_pc (pc' := 54) rfl ?_)
    · have hf := zpos c19 hf
      exact z_sub2 (hκ _ _ hf) (And.intro rfl (And.intro rfl (And.intro rfl (And.intro rfl (And.intro rfl trivial)))))
    · have hf := zneg c19 hf
      refine z_aload C d_V_search_54 rfl (z_pc (pc' := 56) rfl ?_)
      refine z_ifnonnull (tgt := 111) C d_V_search_56 (by decide) (fun c20 => ?_) (fun c20 => (z_pc (pc' := 59) rfl ?_))
      · have hf := zneg c20 hf
        exact z_sub2 (hκ _ _ hf) (And.intro rfl (And.intro rfl (And.intro rfl (And.intro rfl (And.intro rfl trivial)))))
      · have hf := zpos c20 hf
        refine z_aload_n C d_V_search_59 rfl (z_pc (pc' := 60) rfl ?_)
        obtain ⟨x21, h22, hf⟩ := zbind hf
        refine z_getr C fl_V_48 rfl h22 d_V_search_60 (z_pc (pc' := 63) rfl ?_)
        refine z_iload C d_V_search_63 rfl (z_pc (pc' := 65) rfl ?_)
        obtain ⟨x23, h24, hf⟩ := zbind hf
        refine z_aald C (by decide) h24 d_V_search_65 (z_pc (pc' := 66) rfl ?_)
        obtain ⟨x25, h26, hf⟩ := zbind hf
        refine z_getr C fl_V_214 rfl h26 d_V_search_66 (z_pc (pc' := 69) rfl ?_)
        refine z_iload C d_V_search_69 rfl (z_pc (pc' := 71) rfl ?_)
        obtain ⟨x27, h28, hf⟩ := zbind hf
        refine z_aald C (by decide) h28 d_V_search_71 (z_pc (pc' := 72) rfl ?_)
        refine z_astore C d_V_search_72 (by decide) (z_pl (pc' := 74) (L' := [some (zv n0 a0), none, some (zi a2), some (zi a3), some (zv n0 v4), some (zi a5), some (zi v6), some (zv n0 x27)]) rfl rfl ?_)
        refine z_aload C d_V_search_74 rfl (z_pc (pc' := 76) rfl ?_)
        refine z_iload_n C d_V_search_76 rfl (z_pc (pc' := 77) rfl ?_)
        obtain ⟨x31, M30, h29, hf⟩ := zb2_inv hf
        refine z_callV C [zi a2] [] kv_V_328 (c_Tb_may D n0 l h29) (e_Tb_may h29) ⟨(Nat.le_of_ble_eq_true rfl), (Nat.le_of_ble_eq_true rfl)⟩ (Nat.le_of_ble_eq_true rfl) ⟨(Nat.le_of_ble_eq_true rfl), (Nat.le_of_ble_eq_true rfl)⟩ d_V_search_77 (z_pc (pc' := 80) rfl ?_)
        refine z_if_ne (tgt := 86) C d_V_search_80 (by decide) (fun c32 => ?_) (fun c32 => z_pc (pc' := 83) rfl ?_)
        · have hf := zneg c32 hf
          refine z_aload_n C d_V_search_86 rfl (z_pc (pc' := 87) rfl ?_)
          refine z_dupr C d_V_search_87 (z_pc (pc' := 88) rfl ?_)
          obtain ⟨x33, h34, hf⟩ := zbind hf
          refine z_geti C fl_V_321 h34 d_V_search_88 (z_pc (pc' := 91) rfl ?_)
          refine z_iconst C d_V_search_91 (z_pc (pc' := 92) rfl ?_)
          refine z_iadd C d_V_search_92 (z_pc (pc' := 93) rfl ?_)
          obtain ⟨M35, h36, hf⟩ := zbind hf
          refine z_puti C fp_V_321 (by decide) rfl h36 d_V_search_93 (z_pc (pc' := 96) rfl ?_)
          refine z_aload C d_V_search_96 rfl (z_pc (pc' := 98) rfl ?_)
          refine z_iload_n C d_V_search_98 rfl (z_pc (pc' := 99) rfl ?_)
          refine z_iload_n C d_V_search_99 rfl (z_pc (pc' := 100) rfl ?_)
          obtain ⟨x39, M38, h37, hf⟩ := zb2_inv hf
          refine z_callV C [zi a2, zi a3] [] kv_V_331 (c_Tb_find D n0 l h37) (e_Tb_find h37) ⟨(Nat.le_of_ble_eq_true rfl), (Nat.le_of_ble_eq_true rfl)⟩ (Nat.le_of_ble_eq_true rfl) ⟨(Nat.le_of_ble_eq_true rfl), (Nat.le_of_ble_eq_true rfl)⟩ d_V_search_100 (z_pc (pc' := 103) rfl ?_)
          refine z_astore C d_V_search_103 (by decide) (z_pl (pc' := 105) (L' := [some (zv n0 a0), none, some (zi a2), some (zi a3), some (zv n0 x39), some (zi a5), some (zi v6), some (zv n0 x27)]) rfl rfl ?_)
          refine z_iinc C d_V_search_105 rfl (by decide) (z_pl (pc' := 108) (L' := [some (zv n0 a0), none, some (zi a2), some (zi a3), some (zv n0 x39), some (zi a5), some (zi (zadd v6 1)), some (zv n0 x27)]) rfl rfl ?_)
          refine z_goto (tgt := 39) C d_V_search_108 (by decide) ?_
          exact z_sub2 (ih _ _ _ hf) (And.intro rfl (And.intro rfl (And.intro rfl (And.intro rfl (And.intro rfl (And.intro rfl trivial))))))
        · have hf := zpos c32 hf
          refine z_goto (tgt := 105) C d_V_search_83 (by decide) ?_
          refine z_iinc C d_V_search_105 rfl (by decide) (z_pl (pc' := 108) (L' := [some (zv n0 a0), none, some (zi a2), some (zi a3), some (zv n0 v4), some (zi a5), some (zi (zadd v6 1)), some (zv n0 x27)]) rfl rfl ?_)
          refine z_goto (tgt := 39) C d_V_search_108 (by decide) ?_
          exact z_sub2 (ih _ _ _ hf) (And.intro rfl (And.intro rfl (And.intro rfl (And.intro rfl (And.intro rfl (And.intro rfl trivial))))))
set_option maxHeartbeats 4000000 in
set_option maxRecDepth 100000 in
theorem w_V_search_L25 {D : va_G} {n0 : Nat} {l : Launch} {p : Program} {e : Env} {s : State} {m : MethodId} {args : Array Value} {below : List Frame} {meth : Method} {c : Code} {a0 : Nat} {a2 : Int} {a3 : Int} {r : Nat} {M' : zHp} {κ : Nat → zHp → Option (Nat × zHp)} (C : zC D n0 p s m meth c b_V_search 8 "LayerVault") (hr : meth.sig.returnType = (some (.object "LayerVault$Entry")))
    (hκ : ∀ (u4 : Nat) (M1 : zHp), κ u4 M1 = some (r, M') → zZ D n0 p l e { frames := 3, cells := 0, slots := 0, locals := 70 } s m args below meth c 8 0 0 (MQ below (zQc D n0 (some (zv n0 r)) M') args s 0 0 (fun q => n0 ≤ q)) 117 [some (zv n0 a0), none, none, none, some (zv n0 u4), none, none, none] [] M1) :
    ∀ (n : Nat) (v4 : Nat) (v5 : Int) (M : zHp), f_V_search_L25 κ a0 a2 a3 n v4 v5 M = some (r, M') → zZ D n0 p l e { frames := 3, cells := 0, slots := 0, locals := 70 } s m args below meth c 8 0 0 (MQ below (zQc D n0 (some (zv n0 r)) M') args s 0 0 (fun q => n0 ≤ q)) 25 [some (zv n0 a0), none, some (zi a2), some (zi a3), some (zv n0 v4), some (zi v5), none, none] [] M := by
  intro n
  induction n with
  | zero =>
    intro v4 v5 M hf
    exact absurd hf (by unfold f_V_search_L25; simp)
  | succ n ih =>
    intro v4 v5 M hf
    unfold f_V_search_L25 at hf
    refine z_iload C d_V_search_25 rfl (z_pc (pc' := 27) rfl ?_)
    refine z_iconst C d_V_search_27 (z_pc (pc' := 28) rfl ?_)
    refine z_icmp_ge (tgt := 117) C d_V_search_28 (by decide) (fun c11 => ?_) (fun c11 => z_pc (pc' := 31) rfl ?_)
    · have hf := zpos c11 hf
      exact z_sub2 (hκ _ _ hf) (And.intro rfl (And.intro rfl trivial))
    · have hf := zneg c11 hf
      refine z_aload C d_V_search_31 rfl (z_pc (pc' := 33) rfl ?_)
      refine z_ifnonnull (tgt := 117) C d_V_search_33 (by decide) (fun c12 => ?_) (fun c12 => (z_pc (pc' := 36) rfl ?_))
      · have hf := zneg c12 hf
        exact z_sub2 (hκ _ _ hf) (And.intro rfl (And.intro rfl trivial))
      · have hf := zpos c12 hf
        refine z_iconst C d_V_search_36 (z_pc (pc' := 37) rfl ?_)
        refine z_istore C d_V_search_37 (by decide) (z_pl (pc' := 39) (L' := [some (zv n0 a0), none, some (zi a2), some (zi a3), some (zv n0 v4), some (zi v5), some (zi 0), none]) rfl rfl ?_)
        refine z_sub2 (w_V_search_L39 C hr ?_ _ _ _ _ hf) (And.intro rfl (And.intro rfl (And.intro rfl (And.intro rfl (And.intro rfl (And.intro rfl trivial))))))
        intro v40 M41 hf
        refine z_iinc C d_V_search_111 rfl (by decide) (z_pl (pc' := 114) (L' := [some (zv n0 a0), none, some (zi a2), some (zi a3), some (zv n0 v40), some (zi (zadd v5 1)), none, none]) rfl rfl ?_)
        refine z_goto (tgt := 25) C d_V_search_114 (by decide) ?_
        exact z_sub2 (ih _ _ _ hf) (And.intro rfl (And.intro rfl (And.intro rfl (And.intro rfl (And.intro rfl trivial)))))
theorem e_V_search {a0 : Nat} {a1 : Int} {a2 : Int} {M : zHp} {q : Nat × zHp} (hf : f_V_search a0 a1 a2 M = some q) : zk M a0 = 0 := by
  unfold f_V_search at hf
  exact (zif hf).1
set_option maxHeartbeats 4000000 in
set_option maxRecDepth 100000 in
theorem c_V_search (D : va_G) (n0 : Nat) (l : Launch) {a0 : Nat} {a1 : Int} {a2 : Int} {M : zHp} {r : Nat} {M' : zHp} (hf : f_V_search a0 a1 a2 M = some (r, M')) : zM D n0 l y_V_search b_V_search 8 (some (.object "LayerVault$Entry")) 3 70 0 0 [zv n0 a0, zi a1, zi a2] M (some (zv n0 r)) M' := by
  refine zM.ofZ (by decide) (zcr (zci (zci zcn))) (Nat.le_of_ble_eq_true rfl) ?_
  intro p e s m below meth c C hr hnm
  have C : zC D n0 p s m meth c b_V_search 8 "LayerVault" := C
  refine z_eqL (L' := [some (zv n0 a0), some (zi a1), some (zi a2), none, none, none, none, none]) rfl ?_
  unfold f_V_search at hf
  have hf := (zif hf).2
  refine z_aload_n C d_V_search_0 rfl (z_pc (pc' := 1) rfl ?_)
  refine z_iload_n C d_V_search_1 rfl (z_pc (pc' := 2) rfl ?_)
  obtain ⟨x3, M2, h1, hf⟩ := zb2_inv hf
  refine z_callV C [zi a1] [] kv_V_318 (c_V_sees D n0 l h1) (e_V_sees h1) ⟨(Nat.le_of_ble_eq_true rfl), (Nat.le_of_ble_eq_true rfl)⟩ (Nat.le_of_ble_eq_true rfl) ⟨(Nat.le_of_ble_eq_true rfl), (Nat.le_of_ble_eq_true rfl)⟩ d_V_search_2 (z_pc (pc' := 5) rfl ?_)
  refine z_istore_n C d_V_search_5 (by decide) (z_pl (pc' := 6) (L' := [some (zv n0 a0), some (zi a1), some (zi a2), some (zi x3), none, none, none, none]) rfl rfl ?_)
  refine z_aload_n C d_V_search_6 rfl (z_pc (pc' := 7) rfl ?_)
  refine z_iconst C d_V_search_7 (z_pc (pc' := 8) rfl ?_)
  obtain ⟨M4, h5, hf⟩ := zbind hf
  refine z_puti C fp_V_321 (by decide) rfl h5 d_V_search_8 (z_pc (pc' := 11) rfl ?_)
  refine z_aload_n C d_V_search_11 rfl (z_pc (pc' := 12) rfl ?_)
  obtain ⟨x6, h7, hf⟩ := zbind hf
  refine z_getr C fl_V_42 rfl h7 d_V_search_12 (z_pc (pc' := 15) rfl ?_)
  refine z_iload_n C d_V_search_15 rfl (z_pc (pc' := 16) rfl ?_)
  refine z_iload_n C d_V_search_16 rfl (z_pc (pc' := 17) rfl ?_)
  obtain ⟨x10, M9, h8, hf⟩ := zb2_inv hf
  refine z_callV C [zi a2, zi x3] [] kv_V_324 (c_Mt_find D n0 l h8) (e_Mt_find h8) ⟨(Nat.le_of_ble_eq_true rfl), (Nat.le_of_ble_eq_true rfl)⟩ (Nat.le_of_ble_eq_true rfl) ⟨(Nat.le_of_ble_eq_true rfl), (Nat.le_of_ble_eq_true rfl)⟩ d_V_search_17 (z_pc (pc' := 20) rfl ?_)
  refine z_astore C d_V_search_20 (by decide) (z_pl (pc' := 22) (L' := [some (zv n0 a0), some (zi a1), some (zi a2), some (zi x3), some (zv n0 x10), none, none, none]) rfl rfl ?_)
  refine z_iconst C d_V_search_22 (z_pc (pc' := 23) rfl ?_)
  refine z_istore C d_V_search_23 (by decide) (z_pl (pc' := 25) (L' := [some (zv n0 a0), some (zi a1), some (zi a2), some (zi x3), some (zv n0 x10), some (zi 0), none, none]) rfl rfl ?_)
  refine z_sub2 (w_V_search_L25 C hr ?_ _ _ _ _ hf) (And.intro rfl (And.intro rfl (And.intro rfl (And.intro rfl (And.intro rfl trivial)))))
  intro v42 M43 hf
  refine z_aload C d_V_search_117 rfl (z_pc (pc' := 119) rfl ?_)
  refine z_ifnull (tgt := 138) C d_V_search_119 (by decide) (fun c44 => ?_) (fun c44 => (z_pc (pc' := 122) rfl ?_))
  · have hf := zpos c44 hf
    refine z_aload C d_V_search_138 rfl (z_pc (pc' := 140) rfl ?_)
    exact z_aret C hr (Or.inl ⟨_, rfl⟩) (Nat.le_of_ble_eq_true rfl) (Nat.le_of_ble_eq_true rfl) d_V_search_140 hf
  · have hf := zneg c44 hf
    refine z_aload C d_V_search_122 rfl (z_pc (pc' := 124) rfl ?_)
    refine z_aload_n C d_V_search_124 rfl (z_pc (pc' := 125) rfl ?_)
    obtain ⟨x45, h46, hf⟩ := zbind hf
    refine z_geti C fl_V_138 h46 d_V_search_125 (z_pc (pc' := 128) rfl ?_)
    obtain ⟨x49, M48, h47, hf⟩ := zb2_inv hf
    refine z_callV C [zi x45] [] kv_V_197 (c_E_gone D n0 l h47) (e_E_gone h47) ⟨(Nat.le_of_ble_eq_true rfl), (Nat.le_of_ble_eq_true rfl)⟩ (Nat.le_of_ble_eq_true rfl) ⟨(Nat.le_of_ble_eq_true rfl), (Nat.le_of_ble_eq_true rfl)⟩ d_V_search_128 (z_pc (pc' := 131) rfl ?_)
    refine z_if_eq (tgt := 138) C d_V_search_131 (by decide) (fun c50 => ?_) (fun c50 => z_pc (pc' := 134) rfl ?_)
    · have hf := zpos c50 hf
      refine z_aload C d_V_search_138 rfl (z_pc (pc' := 140) rfl ?_)
      exact z_aret C hr (Or.inl ⟨_, rfl⟩) (Nat.le_of_ble_eq_true rfl) (Nat.le_of_ble_eq_true rfl) d_V_search_140 hf
    · have hf := zneg c50 hf
      refine z_null C d_V_search_134 (z_pc (pc' := 135) rfl ?_)
      refine z_goto (tgt := 140) C d_V_search_135 (by decide) ?_
      exact z_aret C hr (Or.inl ⟨_, rfl⟩) (Nat.le_of_ble_eq_true rfl) (Nat.le_of_ble_eq_true rfl) d_V_search_140 hf
