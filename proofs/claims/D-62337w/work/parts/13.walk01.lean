-- walks (printed by main.py)
theorem e_V_syncAll {a0 : Nat} {M : zHp} {q : zHp} (hf : f_V_syncAll a0 M = some q) : zk M a0 = 0 := by
  unfold f_V_syncAll at hf
  exact (zif hf).1
set_option maxHeartbeats 4000000 in
set_option maxRecDepth 100000 in
theorem c_V_syncAll (D : va_G) (n0 : Nat) (l : Launch) {a0 : Nat} {M : zHp} {M' : zHp} (hf : f_V_syncAll a0 M = some M') : zM D n0 l y_V_syncAll b_V_syncAll 1 none 0 0 0 0 [zv n0 a0] M none M' := by
  refine zM.ofZ (by decide) (zcr zcn) (Nat.le_of_ble_eq_true rfl) ?_
  intro p e s m below meth c C hr hnm
  have C : zC D n0 p s m meth c b_V_syncAll 1 "LayerVault" := C
  refine z_eqL (L' := [some (zv n0 a0)]) rfl ?_
  unfold f_V_syncAll at hf
  have hf := (zif hf).2
  refine z_aload_n C d_V_syncAll_0 rfl (z_pc (pc' := 1) rfl ?_)
  refine z_aload_n C d_V_syncAll_1 rfl (z_pc (pc' := 2) rfl ?_)
  obtain ⟨x1, h2, hf⟩ := zbind hf
  refine z_getr C fl_V_16 rfl h2 d_V_syncAll_2 (z_pc (pc' := 5) rfl ?_)
  obtain ⟨M3, h4, hf⟩ := zbind hf
  refine z_putr C fp_V_23 rfl (by decide) rfl h4 d_V_syncAll_5 (z_pc (pc' := 8) rfl ?_)
  refine z_aload_n C d_V_syncAll_8 rfl (z_pc (pc' := 9) rfl ?_)
  refine z_aload_n C d_V_syncAll_9 rfl (z_pc (pc' := 10) rfl ?_)
  obtain ⟨x5, h6, hf⟩ := zbind hf
  refine z_getr C fl_V_16 rfl h6 d_V_syncAll_10 (z_pc (pc' := 13) rfl ?_)
  obtain ⟨x7, h8, hf⟩ := zbind hf
  refine z_geti C fl_V_79 h8 d_V_syncAll_13 (z_pc (pc' := 16) rfl ?_)
  obtain ⟨M9, h10, hf⟩ := zbind hf
  refine z_puti C fp_V_94 (by decide) rfl h10 d_V_syncAll_16 (z_pc (pc' := 19) rfl ?_)
  refine z_aload_n C d_V_syncAll_19 rfl (z_pc (pc' := 20) rfl ?_)
  refine z_aload_n C d_V_syncAll_20 rfl (z_pc (pc' := 21) rfl ?_)
  obtain ⟨x11, h12, hf⟩ := zbind hf
  refine z_geti C fl_V_97 h12 d_V_syncAll_21 (z_pc (pc' := 24) rfl ?_)
  obtain ⟨M13, h14, hf⟩ := zbind hf
  refine z_puti C fp_V_100 (by decide) rfl h14 d_V_syncAll_24 (z_pc (pc' := 27) rfl ?_)
  refine z_aload_n C d_V_syncAll_27 rfl (z_pc (pc' := 28) rfl ?_)
  refine z_iconst C d_V_syncAll_28 (z_pc (pc' := 29) rfl ?_)
  obtain ⟨M15, h16, hf⟩ := zbind hf
  refine z_puti C fp_V_103 (by decide) rfl h16 d_V_syncAll_29 (z_pc (pc' := 32) rfl ?_)
  exact z_vret C hr (Nat.le_of_ble_eq_true rfl) (Nat.le_of_ble_eq_true rfl) d_V_syncAll_32 hf
theorem e_V_sync {a0 : Nat} {M : zHp} {q : Int × zHp} (hf : f_V_sync a0 M = some q) : zk M a0 = 0 := by
  unfold f_V_sync at hf
  exact (zif hf).1
set_option maxHeartbeats 4000000 in
set_option maxRecDepth 100000 in
theorem c_V_sync (D : va_G) (n0 : Nat) (l : Launch) {a0 : Nat} {M : zHp} {r : Int} {M' : zHp} (hf : f_V_sync a0 M = some (r, M')) : zM D n0 l y_V_sync b_V_sync 2 (some .int) 1 20 0 0 [zv n0 a0] M (some (zi r)) M' := by
  refine zM.ofZ (by decide) (zcr zcn) (Nat.le_of_ble_eq_true rfl) ?_
  intro p e s m below meth c C hr hnm
  have C : zC D n0 p s m meth c b_V_sync 2 "LayerVault" := C
  refine z_eqL (L' := [some (zv n0 a0), none]) rfl ?_
  unfold f_V_sync at hf
  have hf := (zif hf).2
  refine z_aload_n C d_V_sync_0 rfl (z_pc (pc' := 1) rfl ?_)
  obtain ⟨x1, h2, hf⟩ := zbind hf
  refine z_geti C fl_V_103 h2 d_V_sync_1 (z_pc (pc' := 4) rfl ?_)
  refine z_istore_n C d_V_sync_4 (by decide) (z_pl (pc' := 5) (L' := [some (zv n0 a0), some (zi x1)]) rfl rfl ?_)
  refine z_aload_n C d_V_sync_5 rfl (z_pc (pc' := 6) rfl ?_)
  obtain ⟨M4, h3, hf⟩ := zbind hf
  refine z_callV C [] [] kv_V_106 (c_V_syncAll D n0 l h3) (e_V_syncAll h3) ⟨(Nat.le_of_ble_eq_true rfl), (Nat.le_of_ble_eq_true rfl)⟩ (Nat.le_of_ble_eq_true rfl) ⟨(Nat.le_of_ble_eq_true rfl), (Nat.le_of_ble_eq_true rfl)⟩ d_V_sync_6 (z_pc (pc' := 9) rfl ?_)
  refine z_iload_n C d_V_sync_9 rfl (z_pc (pc' := 10) rfl ?_)
  exact z_iret C hr (Nat.le_of_ble_eq_true rfl) (Nat.le_of_ble_eq_true rfl) d_V_sync_10 hf
set_option maxHeartbeats 4000000 in
set_option maxRecDepth 100000 in
theorem c_V_isKey (D : va_G) (n0 : Nat) (l : Launch) {a0 : Int} {M : zHp} {r : Int} {M' : zHp} (hf : f_V_isKey a0 M = some (r, M')) : zM D n0 l y_V_isKey b_V_isKey 1 (some .boolean) 0 0 0 0 [zi a0] M (some (zi r)) M' := by
  refine zM.ofZ (by decide) (zci zcn) (Nat.le_of_ble_eq_true rfl) ?_
  intro p e s m below meth c C hr hnm
  have C : zC D n0 p s m meth c b_V_isKey 1 "LayerVault" := C
  refine z_eqL (L' := [some (zi a0)]) rfl ?_
  unfold f_V_isKey at hf
  refine z_iload_n C d_V_isKey_0 rfl (z_pc (pc' := 1) rfl ?_)
  refine z_if_lt (tgt := 14) C d_V_isKey_1 (by decide) (fun c1 => ?_) (fun c1 => z_pc (pc' := 4) rfl ?_)
  · have hf := zpos c1 hf
    refine z_iconst C d_V_isKey_14 (z_pc (pc' := 15) rfl ?_)
    exact z_zret C hr rfl (Nat.le_of_ble_eq_true rfl) (Nat.le_of_ble_eq_true rfl) d_V_isKey_15 hf
  · have hf := zneg c1 hf
    refine z_iload_n C d_V_isKey_4 rfl (z_pc (pc' := 5) rfl ?_)
    refine z_bipush C d_V_isKey_5 (by decide) (z_pc (pc' := 7) rfl ?_)
    refine z_icmp_ge (tgt := 14) C d_V_isKey_7 (by decide) (fun c2 => ?_) (fun c2 => z_pc (pc' := 10) rfl ?_)
    · have hf := zpos c2 hf
      refine z_iconst C d_V_isKey_14 (z_pc (pc' := 15) rfl ?_)
      exact z_zret C hr rfl (Nat.le_of_ble_eq_true rfl) (Nat.le_of_ble_eq_true rfl) d_V_isKey_15 hf
    · have hf := zneg c2 hf
      refine z_iconst C d_V_isKey_10 (z_pc (pc' := 11) rfl ?_)
      refine z_goto (tgt := 15) C d_V_isKey_11 (by decide) ?_
      exact z_zret C hr rfl (Nat.le_of_ble_eq_true rfl) (Nat.le_of_ble_eq_true rfl) d_V_isKey_15 hf
theorem e_V_ready {a0 : Nat} {a1 : Int} {a2 : Int} {a3 : Int} {M : zHp} {q : Int × zHp} (hf : f_V_ready a0 a1 a2 a3 M = some q) : zk M a0 = 0 := by
  unfold f_V_ready at hf
  exact (zif hf).1
set_option maxHeartbeats 4000000 in
set_option maxRecDepth 100000 in
theorem c_V_ready (D : va_G) (n0 : Nat) (l : Launch) {a0 : Nat} {a1 : Int} {a2 : Int} {a3 : Int} {M : zHp} {r : Int} {M' : zHp} (hf : f_V_ready a0 a1 a2 a3 M = some (r, M')) : zM D n0 l y_V_ready b_V_ready 4 (some .int) 0 0 0 0 [zv n0 a0, zi a1, zi a2, zi a3] M (some (zi r)) M' := by
  refine zM.ofZ (by decide) (zcr (zci (zci (zci zcn)))) (Nat.le_of_ble_eq_true rfl) ?_
  intro p e s m below meth c C hr hnm
  have C : zC D n0 p s m meth c b_V_ready 4 "LayerVault" := C
  refine z_eqL (L' := [some (zv n0 a0), some (zi a1), some (zi a2), some (zi a3)]) rfl ?_
  unfold f_V_ready at hf
  have hf := (zif hf).2
  refine z_aload_n C d_V_ready_0 rfl (z_pc (pc' := 1) rfl ?_)
  obtain ⟨x1, h2, hf⟩ := zbind hf
  refine z_geti C fl_V_109 h2 d_V_ready_1 (z_pc (pc' := 4) rfl ?_)
  refine z_bipush C d_V_ready_4 (by decide) (z_pc (pc' := 6) rfl ?_)
  refine z_icmp_ne (tgt := 12) C d_V_ready_6 (by decide) (fun c3 => ?_) (fun c3 => z_pc (pc' := 9) rfl ?_)
  · have hf := zneg c3 hf
    refine z_aload_n C d_V_ready_12 rfl (z_pc (pc' := 13) rfl ?_)
    obtain ⟨x4, h5, hf⟩ := zbind hf
    refine z_getr C fl_V_26 rfl h5 d_V_ready_13 (z_pc (pc' := 16) rfl ?_)
    refine z_aload_n C d_V_ready_16 rfl (z_pc (pc' := 17) rfl ?_)
    obtain ⟨x6, h7, hf⟩ := zbind hf
    refine z_geti C fl_V_109 h7 d_V_ready_17 (z_pc (pc' := 20) rfl ?_)
    refine z_iload_n C d_V_ready_20 rfl (z_pc (pc' := 21) rfl ?_)
    obtain ⟨M8, h9, hf⟩ := zbind hf
    refine z_iast C h9 d_V_ready_21 (z_pc (pc' := 22) rfl ?_)
    refine z_aload_n C d_V_ready_22 rfl (z_pc (pc' := 23) rfl ?_)
    obtain ⟨x10, h11, hf⟩ := zbind hf
    refine z_getr C fl_V_30 rfl h11 d_V_ready_23 (z_pc (pc' := 26) rfl ?_)
    refine z_aload_n C d_V_ready_26 rfl (z_pc (pc' := 27) rfl ?_)
    obtain ⟨x12, h13, hf⟩ := zbind hf
    refine z_geti C fl_V_109 h13 d_V_ready_27 (z_pc (pc' := 30) rfl ?_)
    refine z_iload_n C d_V_ready_30 rfl (z_pc (pc' := 31) rfl ?_)
    obtain ⟨M14, h15, hf⟩ := zbind hf
    refine z_iast C h15 d_V_ready_31 (z_pc (pc' := 32) rfl ?_)
    refine z_aload_n C d_V_ready_32 rfl (z_pc (pc' := 33) rfl ?_)
    obtain ⟨x16, h17, hf⟩ := zbind hf
    refine z_getr C fl_V_33 rfl h17 d_V_ready_33 (z_pc (pc' := 36) rfl ?_)
    refine z_aload_n C d_V_ready_36 rfl (z_pc (pc' := 37) rfl ?_)
    obtain ⟨x18, h19, hf⟩ := zbind hf
    refine z_geti C fl_V_109 h19 d_V_ready_37 (z_pc (pc' := 40) rfl ?_)
    refine z_iload_n C d_V_ready_40 rfl (z_pc (pc' := 41) rfl ?_)
    obtain ⟨M20, h21, hf⟩ := zbind hf
    refine z_iast C h21 d_V_ready_41 (z_pc (pc' := 42) rfl ?_)
    refine z_aload_n C d_V_ready_42 rfl (z_pc (pc' := 43) rfl ?_)
    refine z_dupr C d_V_ready_43 (z_pc (pc' := 44) rfl ?_)
    obtain ⟨x22, h23, hf⟩ := zbind hf
    refine z_geti C fl_V_109 h23 d_V_ready_44 (z_pc (pc' := 47) rfl ?_)
    refine z_iconst C d_V_ready_47 (z_pc (pc' := 48) rfl ?_)
    refine z_iadd C d_V_ready_48 (z_pc (pc' := 49) rfl ?_)
    obtain ⟨M24, h25, hf⟩ := zbind hf
    refine z_puti C fp_V_109 (by decide) rfl h25 d_V_ready_49 (z_pc (pc' := 52) rfl ?_)
    refine z_aload_n C d_V_ready_52 rfl (z_pc (pc' := 53) rfl ?_)
    obtain ⟨x26, h27, hf⟩ := zbind hf
    refine z_geti C fl_V_109 h27 d_V_ready_53 (z_pc (pc' := 56) rfl ?_)
    exact z_iret C hr (Nat.le_of_ble_eq_true rfl) (Nat.le_of_ble_eq_true rfl) d_V_ready_56 hf
  · have hf := zpos c3 hf
    refine z_bipush C d_V_ready_9 (by decide) (z_pc (pc' := 11) rfl ?_)
    exact z_iret C hr (Nat.le_of_ble_eq_true rfl) (Nat.le_of_ble_eq_true rfl) d_V_ready_11 hf
theorem e_V_put {a0 : Nat} {a1 : Int} {a2 : Int} {a3 : Int} {M : zHp} {q : Int × zHp} (hf : f_V_put a0 a1 a2 a3 M = some q) : zk M a0 = 0 := by
  unfold f_V_put at hf
  exact (zif hf).1
set_option maxHeartbeats 4000000 in
set_option maxRecDepth 100000 in
theorem c_V_put (D : va_G) (n0 : Nat) (l : Launch) {a0 : Nat} {a1 : Int} {a2 : Int} {a3 : Int} {M : zHp} {r : Int} {M' : zHp} (hf : f_V_put a0 a1 a2 a3 M = some (r, M')) : zM D n0 l y_V_put b_V_put 4 (some .int) 1 23 0 0 [zv n0 a0, zi a1, zi a2, zi a3] M (some (zi r)) M' := by
  refine zM.ofZ (by decide) (zcr (zci (zci (zci zcn)))) (Nat.le_of_ble_eq_true rfl) ?_
  intro p e s m below meth c C hr hnm
  have C : zC D n0 p s m meth c b_V_put 4 "LayerVault" := C
  refine z_eqL (L' := [some (zv n0 a0), some (zi a1), some (zi a2), some (zi a3)]) rfl ?_
  unfold f_V_put at hf
  have hf := (zif hf).2
  refine z_iload_n C d_V_put_0 rfl (z_pc (pc' := 1) rfl ?_)
  obtain ⟨x3, M2, h1, hf⟩ := zb2_inv hf
  refine z_callS C [zi a1] [] ks_V_112 (c_V_isKey D n0 l h1) ⟨(Nat.le_of_ble_eq_true rfl), (Nat.le_of_ble_eq_true rfl)⟩ (Nat.le_of_ble_eq_true rfl) ⟨(Nat.le_of_ble_eq_true rfl), (Nat.le_of_ble_eq_true rfl)⟩ d_V_put_1 (z_pc (pc' := 4) rfl ?_)
  refine z_if_eq (tgt := 18) C d_V_put_4 (by decide) (fun c4 => ?_) (fun c4 => z_pc (pc' := 7) rfl ?_)
  · have hf := zpos c4 hf
    refine z_iconst C d_V_put_18 (z_pc (pc' := 19) rfl ?_)
    refine z_goto (tgt := 29) C d_V_put_19 (by decide) ?_
    exact z_iret C hr (Nat.le_of_ble_eq_true rfl) (Nat.le_of_ble_eq_true rfl) d_V_put_29 hf
  · have hf := zneg c4 hf
    refine z_iload_n C d_V_put_7 rfl (z_pc (pc' := 8) rfl ?_)
    refine z_if_lt (tgt := 18) C d_V_put_8 (by decide) (fun c5 => ?_) (fun c5 => z_pc (pc' := 11) rfl ?_)
    · have hf := zpos c5 hf
      refine z_iconst C d_V_put_18 (z_pc (pc' := 19) rfl ?_)
      refine z_goto (tgt := 29) C d_V_put_19 (by decide) ?_
      exact z_iret C hr (Nat.le_of_ble_eq_true rfl) (Nat.le_of_ble_eq_true rfl) d_V_put_29 hf
    · have hf := zneg c5 hf
      refine z_iload_n C d_V_put_11 rfl (z_pc (pc' := 12) rfl ?_)
      refine z_sipush C d_V_put_12 (by decide) (z_pc (pc' := 15) rfl ?_)
      refine z_icmp_le (tgt := 22) C d_V_put_15 (by decide) (fun c6 => ?_) (fun c6 => z_pc (pc' := 18) rfl ?_)
      · have hf := zpos c6 hf
        refine z_aload_n C d_V_put_22 rfl (z_pc (pc' := 23) rfl ?_)
        refine z_iload_n C d_V_put_23 rfl (z_pc (pc' := 24) rfl ?_)
        refine z_iload_n C d_V_put_24 rfl (z_pc (pc' := 25) rfl ?_)
        refine z_iload_n C d_V_put_25 rfl (z_pc (pc' := 26) rfl ?_)
        obtain ⟨x9, M8, h7, hf⟩ := zb2_inv hf
        refine z_callV C [zi a1, zi a2, zi a3] [] kv_V_116 (c_V_ready D n0 l h7) (e_V_ready h7) ⟨(Nat.le_of_ble_eq_true rfl), (Nat.le_of_ble_eq_true rfl)⟩ (Nat.le_of_ble_eq_true rfl) ⟨(Nat.le_of_ble_eq_true rfl), (Nat.le_of_ble_eq_true rfl)⟩ d_V_put_26 (z_pc (pc' := 29) rfl ?_)
        exact z_iret C hr (Nat.le_of_ble_eq_true rfl) (Nat.le_of_ble_eq_true rfl) d_V_put_29 hf
      · have hf := zneg c6 hf
        refine z_iconst C d_V_put_18 (z_pc (pc' := 19) rfl ?_)
        refine z_goto (tgt := 29) C d_V_put_19 (by decide) ?_
        exact z_iret C hr (Nat.le_of_ble_eq_true rfl) (Nat.le_of_ble_eq_true rfl) d_V_put_29 hf
theorem e_V_delete {a0 : Nat} {a1 : Int} {M : zHp} {q : Int × zHp} (hf : f_V_delete a0 a1 M = some q) : zk M a0 = 0 := by
  unfold f_V_delete at hf
  exact (zif hf).1
set_option maxHeartbeats 4000000 in
set_option maxRecDepth 100000 in
theorem c_V_delete (D : va_G) (n0 : Nat) (l : Launch) {a0 : Nat} {a1 : Int} {M : zHp} {r : Int} {M' : zHp} (hf : f_V_delete a0 a1 M = some (r, M')) : zM D n0 l y_V_delete b_V_delete 2 (some .int) 1 23 0 0 [zv n0 a0, zi a1] M (some (zi r)) M' := by
  refine zM.ofZ (by decide) (zcr (zci zcn)) (Nat.le_of_ble_eq_true rfl) ?_
  intro p e s m below meth c C hr hnm
  have C : zC D n0 p s m meth c b_V_delete 2 "LayerVault" := C
  refine z_eqL (L' := [some (zv n0 a0), some (zi a1)]) rfl ?_
  unfold f_V_delete at hf
  have hf := (zif hf).2
  refine z_iload_n C d_V_delete_0 rfl (z_pc (pc' := 1) rfl ?_)
  obtain ⟨x3, M2, h1, hf⟩ := zb2_inv hf
  refine z_callS C [zi a1] [] ks_V_112 (c_V_isKey D n0 l h1) ⟨(Nat.le_of_ble_eq_true rfl), (Nat.le_of_ble_eq_true rfl)⟩ (Nat.le_of_ble_eq_true rfl) ⟨(Nat.le_of_ble_eq_true rfl), (Nat.le_of_ble_eq_true rfl)⟩ d_V_delete_1 (z_pc (pc' := 4) rfl ?_)
  refine z_if_eq (tgt := 17) C d_V_delete_4 (by decide) (fun c4 => ?_) (fun c4 => z_pc (pc' := 7) rfl ?_)
  · have hf := zpos c4 hf
    refine z_iconst C d_V_delete_17 (z_pc (pc' := 18) rfl ?_)
    exact z_iret C hr (Nat.le_of_ble_eq_true rfl) (Nat.le_of_ble_eq_true rfl) d_V_delete_18 hf
  · have hf := zneg c4 hf
    refine z_aload_n C d_V_delete_7 rfl (z_pc (pc' := 8) rfl ?_)
    refine z_iload_n C d_V_delete_8 rfl (z_pc (pc' := 9) rfl ?_)
    refine z_iconst C d_V_delete_9 (z_pc (pc' := 10) rfl ?_)
    refine z_iconst C d_V_delete_10 (z_pc (pc' := 11) rfl ?_)
    obtain ⟨x7, M6, h5, hf⟩ := zb2_inv hf
    refine z_callV C [zi a1, zi 0, zi (-1)] [] kv_V_116 (c_V_ready D n0 l h5) (e_V_ready h5) ⟨(Nat.le_of_ble_eq_true rfl), (Nat.le_of_ble_eq_true rfl)⟩ (Nat.le_of_ble_eq_true rfl) ⟨(Nat.le_of_ble_eq_true rfl), (Nat.le_of_ble_eq_true rfl)⟩ d_V_delete_11 (z_pc (pc' := 14) rfl ?_)
    refine z_goto (tgt := 18) C d_V_delete_14 (by decide) ?_
    exact z_iret C hr (Nat.le_of_ble_eq_true rfl) (Nat.le_of_ble_eq_true rfl) d_V_delete_18 hf
set_option maxHeartbeats 4000000 in
set_option maxRecDepth 100000 in
theorem c_V_code (D : va_G) (n0 : Nat) (l : Launch) {a0 : Int} {a1 : Int} {M : zHp} {r : Int} {M' : zHp} (hf : f_V_code a0 a1 M = some (r, M')) : zM D n0 l y_V_code b_V_code 2 (some .int) 0 0 0 0 [zi a0, zi a1] M (some (zi r)) M' := by
  refine zM.ofZ (by decide) (zci (zci zcn)) (Nat.le_of_ble_eq_true rfl) ?_
  intro p e s m below meth c C hr hnm
  have C : zC D n0 p s m meth c b_V_code 2 "LayerVault" := C
  refine z_eqL (L' := [some (zi a0), some (zi a1)]) rfl ?_
  unfold f_V_code at hf
  refine z_iload_n C d_V_code_0 rfl (z_pc (pc' := 1) rfl ?_)
  refine z_if_eq (tgt := 11) C d_V_code_1 (by decide) (fun c1 => ?_) (fun c1 => z_pc (pc' := 4) rfl ?_)
  · have hf := zpos c1 hf
    refine z_iload_n C d_V_code_11 rfl (z_pc (pc' := 12) rfl ?_)
    exact z_iret C hr (Nat.le_of_ble_eq_true rfl) (Nat.le_of_ble_eq_true rfl) d_V_code_12 hf
  · have hf := zneg c1 hf
    refine z_iload_n C d_V_code_4 rfl (z_pc (pc' := 5) rfl ?_)
    refine z_bipush C d_V_code_5 (by decide) (z_pc (pc' := 7) rfl ?_)
    refine z_iadd C d_V_code_7 (z_pc (pc' := 8) rfl ?_)
    refine z_goto (tgt := 12) C d_V_code_8 (by decide) ?_
    exact z_iret C hr (Nat.le_of_ble_eq_true rfl) (Nat.le_of_ble_eq_true rfl) d_V_code_12 hf
set_option maxHeartbeats 4000000 in
set_option maxRecDepth 100000 in
theorem w_V_join_L33 {D : va_G} {n0 : Nat} {l : Launch} {p : Program} {e : Env} {s : State} {m : MethodId} {args : Array Value} {below : List Frame} {meth : Method} {c : Code} {a0 : Nat} {a2 : Int} {a3 : Nat} {M' : zHp} {κ : zHp → Option (zHp)} (C : zC D n0 p s m meth c b_V_join 5 "LayerVault") (hr : meth.sig.returnType = none)
    (hκ : ∀ (M1 : zHp), κ M1 = some M' → zZ D n0 p l e { frames := 3, cells := 0, slots := 0, locals := 70 } s m args below meth c 5 0 0 (MQ below (zQc D n0 none M') args s 0 0 (fun q => n0 ≤ q)) 80 [none, none, none, none, none] [] M1) :
    ∀ (n : Nat) (v4 : Int) (M : zHp), f_V_join_L33 κ a0 a2 a3 n v4 M = some M' → zZ D n0 p l e { frames := 3, cells := 0, slots := 0, locals := 70 } s m args below meth c 5 0 0 (MQ below (zQc D n0 none M') args s 0 0 (fun q => n0 ≤ q)) 33 [some (zv n0 a0), none, some (zi a2), some (zv n0 a3), some (zi v4)] [] M := by
  intro n
  induction n with
  | zero =>
    intro v4 M hf
    exact absurd hf (by unfold f_V_join_L33; simp)
  | succ n ih =>
    intro v4 M hf
    unfold f_V_join_L33 at hf
    refine z_iload C d_V_join_33 rfl (z_pc (pc' := 35) rfl ?_)
    refine z_aload_n C d_V_join_35 rfl (z_pc (pc' := 36) rfl ?_)
    obtain ⟨x6, h7, hf⟩ := zbind hf
    refine z_geti C fl_V_213 h7 d_V_join_36 (z_pc (pc' := 39) rfl ?_)
    refine z_icmp_ge (tgt := 80) C d_V_join_39 (by decide) (fun c8 => ?_) (fun c8 => z_pc (pc' := 42) rfl ?_)
    · have hf := zpos c8 hf
      exact z_sub2 (hκ _ hf) trivial
    · have hf := zneg c8 hf
      refine z_aload_n C d_V_join_42 rfl (z_pc (pc' := 43) rfl ?_)
      obtain ⟨x9, h10, hf⟩ := zbind hf
      refine z_getr C fl_V_54 rfl h10 d_V_join_43 (z_pc (pc' := 46) rfl ?_)
      refine z_iload C d_V_join_46 rfl (z_pc (pc' := 48) rfl ?_)
      obtain ⟨x11, h12, hf⟩ := zbind hf
      refine z_aald C (by decide) h12 d_V_join_48 (z_pc (pc' := 49) rfl ?_)
      refine z_aload_n C d_V_join_49 rfl (z_pc (pc' := 50) rfl ?_)
      obtain ⟨x13, h14, hf⟩ := zbind hf
      refine z_getr C fl_V_214 rfl h14 d_V_join_50 (z_pc (pc' := 53) rfl ?_)
      refine z_iload C d_V_join_53 rfl (z_pc (pc' := 55) rfl ?_)
      obtain ⟨x15, h16, hf⟩ := zbind hf
      refine z_aald C (by decide) h16 d_V_join_55 (z_pc (pc' := 56) rfl ?_)
      refine z_iload_n C d_V_join_56 rfl (z_pc (pc' := 57) rfl ?_)
      obtain ⟨M18, h17, hf⟩ := zbind hf
      refine z_callV C [zv n0 x15, zi a2] [] kv_V_234 (c_Sg_begin D n0 l h17) (e_Sg_begin h17) ⟨(Nat.le_of_ble_eq_true rfl), (Nat.le_of_ble_eq_true rfl)⟩ (Nat.le_of_ble_eq_true rfl) ⟨(Nat.le_of_ble_eq_true rfl), (Nat.le_of_ble_eq_true rfl)⟩ d_V_join_57 (z_pc (pc' := 60) rfl ?_)
      refine z_aload_n C d_V_join_60 rfl (z_pc (pc' := 61) rfl ?_)
      obtain ⟨x19, h20, hf⟩ := zbind hf
      refine z_getr C fl_V_61 rfl h20 d_V_join_61 (z_pc (pc' := 64) rfl ?_)
      refine z_aload_n C d_V_join_64 rfl (z_pc (pc' := 65) rfl ?_)
      obtain ⟨x21, h22, hf⟩ := zbind hf
      refine z_getr C fl_V_54 rfl h22 d_V_join_65 (z_pc (pc' := 68) rfl ?_)
      refine z_iload C d_V_join_68 rfl (z_pc (pc' := 70) rfl ?_)
      obtain ⟨x23, h24, hf⟩ := zbind hf
      refine z_aald C (by decide) h24 d_V_join_70 (z_pc (pc' := 71) rfl ?_)
      obtain ⟨M26, h25, hf⟩ := zbind hf
      refine z_callV C [zv n0 x23] [] kv_V_231 (c_Mg_add D n0 l h25) (e_Mg_add h25) ⟨(Nat.le_of_ble_eq_true rfl), (Nat.le_of_ble_eq_true rfl)⟩ (Nat.le_of_ble_eq_true rfl) ⟨(Nat.le_of_ble_eq_true rfl), (Nat.le_of_ble_eq_true rfl)⟩ d_V_join_71 (z_pc (pc' := 74) rfl ?_)
      refine z_iinc C d_V_join_74 rfl (by decide) (z_pl (pc' := 77) (L' := [some (zv n0 a0), none, some (zi a2), some (zv n0 a3), some (zi (zadd v4 1))]) rfl rfl ?_)
      refine z_goto (tgt := 33) C d_V_join_77 (by decide) ?_
      exact z_sub2 (ih _ _ hf) (And.intro rfl (And.intro rfl (And.intro rfl (And.intro rfl trivial))))
theorem e_V_join {a0 : Nat} {a1 : Int} {a2 : Int} {M : zHp} {q : zHp} (hf : f_V_join a0 a1 a2 M = some q) : zk M a0 = 0 := by
  unfold f_V_join at hf
  exact (zif hf).1
set_option maxHeartbeats 4000000 in
set_option maxRecDepth 100000 in
theorem c_V_join (D : va_G) (n0 : Nat) (l : Launch) {a0 : Nat} {a1 : Int} {a2 : Int} {M : zHp} {M' : zHp} (hf : f_V_join a0 a1 a2 M = some M') : zM D n0 l y_V_join b_V_join 5 none 3 70 0 0 [zv n0 a0, zi a1, zi a2] M none M' := by
  refine zM.ofZ (by decide) (zcr (zci (zci zcn))) (Nat.le_of_ble_eq_true rfl) ?_
  intro p e s m below meth c C hr hnm
  have C : zC D n0 p s m meth c b_V_join 5 "LayerVault" := C
  refine z_eqL (L' := [some (zv n0 a0), some (zi a1), some (zi a2), none, none]) rfl ?_
  unfold f_V_join at hf
  have hf := (zif hf).2
  refine z_aload_n C d_V_join_0 rfl (z_pc (pc' := 1) rfl ?_)
  obtain ⟨x1, h2, hf⟩ := zbind hf
  refine z_getr C fl_V_48 rfl h2 d_V_join_1 (z_pc (pc' := 4) rfl ?_)
  refine z_iload_n C d_V_join_4 rfl (z_pc (pc' := 5) rfl ?_)
  obtain ⟨x3, h4, hf⟩ := zbind hf
  refine z_aald C (by decide) h4 d_V_join_5 (z_pc (pc' := 6) rfl ?_)
  refine z_astore_n C d_V_join_6 (by decide) (z_pl (pc' := 7) (L' := [some (zv n0 a0), some (zi a1), some (zi a2), some (zv n0 x3), none]) rfl rfl ?_)
  refine z_iload_n C d_V_join_7 rfl (z_pc (pc' := 8) rfl ?_)
  refine z_if_le (tgt := 30) C d_V_join_8 (by decide) (fun c5 => ?_) (fun c5 => z_pc (pc' := 11) rfl ?_)
  · have hf := zpos c5 hf
    refine z_iconst C d_V_join_30 (z_pc (pc' := 31) rfl ?_)
    refine z_istore C d_V_join_31 (by decide) (z_pl (pc' := 33) (L' := [some (zv n0 a0), some (zi a1), some (zi a2), some (zv n0 x3), some (zi 0)]) rfl rfl ?_)
    refine z_sub2 (w_V_join_L33 C hr ?_ _ _ _ hf) (And.intro rfl (And.intro rfl (And.intro rfl (And.intro rfl trivial))))
    intro M27 hf
    exact z_vret C hr (Nat.le_of_ble_eq_true rfl) (Nat.le_of_ble_eq_true rfl) d_V_join_80 hf
  · have hf := zneg c5 hf
    refine z_aload_n C d_V_join_11 rfl (z_pc (pc' := 12) rfl ?_)
    refine z_iconst C d_V_join_12 (z_pc (pc' := 13) rfl ?_)
    refine z_aload_n C d_V_join_13 rfl (z_pc (pc' := 14) rfl ?_)
    obtain ⟨x28, h29, hf⟩ := zbind hf
    refine z_geti C fl_V_213 h29 d_V_join_14 (z_pc (pc' := 17) rfl ?_)
    refine z_iload_n C d_V_join_17 rfl (z_pc (pc' := 18) rfl ?_)
    obtain ⟨M31, h30, hf⟩ := zbind hf
    refine z_callV C [zi 0, zi x28, zi a2] [] kv_V_228 (c_Lv_begin D n0 l h30) (e_Lv_begin h30) ⟨(Nat.le_of_ble_eq_true rfl), (Nat.le_of_ble_eq_true rfl)⟩ (Nat.le_of_ble_eq_true rfl) ⟨(Nat.le_of_ble_eq_true rfl), (Nat.le_of_ble_eq_true rfl)⟩ d_V_join_18 (z_pc (pc' := 21) rfl ?_)
    refine z_aload_n C d_V_join_21 rfl (z_pc (pc' := 22) rfl ?_)
    obtain ⟨x32, h33, hf⟩ := zbind hf
    refine z_getr C fl_V_61 rfl h33 d_V_join_22 (z_pc (pc' := 25) rfl ?_)
    refine z_aload_n C d_V_join_25 rfl (z_pc (pc' := 26) rfl ?_)
    obtain ⟨M35, h34, hf⟩ := zbind hf
    refine z_callV C [zv n0 x3] [] kv_V_231 (c_Mg_add D n0 l h34) (e_Mg_add h34) ⟨(Nat.le_of_ble_eq_true rfl), (Nat.le_of_ble_eq_true rfl)⟩ (Nat.le_of_ble_eq_true rfl) ⟨(Nat.le_of_ble_eq_true rfl), (Nat.le_of_ble_eq_true rfl)⟩ d_V_join_26 (z_pc (pc' := 29) rfl ?_)
    exact z_vret C hr (Nat.le_of_ble_eq_true rfl) (Nat.le_of_ble_eq_true rfl) d_V_join_29 hf
set_option maxHeartbeats 4000000 in
set_option maxRecDepth 100000 in
theorem w_V_gather_L12 {D : va_G} {n0 : Nat} {l : Launch} {p : Program} {e : Env} {s : State} {m : MethodId} {args : Array Value} {below : List Frame} {meth : Method} {c : Code} {a0 : Nat} {a1 : Nat} {M' : zHp} {κ : zHp → Option (zHp)} (C : zC D n0 p s m meth c b_V_gather 3 "LayerVault") (hr : meth.sig.returnType = none)
    (hκ : ∀ (M1 : zHp), κ M1 = some M' → zZ D n0 p l e { frames := 3, cells := 0, slots := 0, locals := 66 } s m args below meth c 3 0 0 (MQ below (zQc D n0 none M') args s 0 0 (fun q => n0 ≤ q)) 52 [none, none, none] [] M1) :
    ∀ (n : Nat) (v2 : Nat) (M : zHp), f_V_gather_L12 κ a0 a1 n v2 M = some M' → zZ D n0 p l e { frames := 3, cells := 0, slots := 0, locals := 66 } s m args below meth c 3 0 0 (MQ below (zQc D n0 none M') args s 0 0 (fun q => n0 ≤ q)) 12 [some (zv n0 a0), some (zv n0 a1), some (zv n0 v2)] [] M := by
  intro n
  induction n with
  | zero =>
    intro v2 M hf
    exact absurd hf (by unfold f_V_gather_L12; simp)
  | succ n ih =>
    intro v2 M hf
    unfold f_V_gather_L12 at hf
    refine z_aload_n C d_V_gather_12 rfl (z_pc (pc' := 13) rfl ?_)
    refine z_ifnull (tgt := 52) C d_V_gather_13 (by decide) (fun c6 => ?_) (fun c6 => (z_pc (pc' := 16) rfl ?_))
    · have hf := zpos c6 hf
      exact z_sub2 (hκ _ hf) trivial
    · have hf := zneg c6 hf
      refine z_aload_n C d_V_gather_16 rfl (z_pc (pc' := 17) rfl ?_)
      obtain ⟨x7, h8, hf⟩ := zbind hf
      refine z_getr C fl_V_67 rfl h8 d_V_gather_17 (z_pc (pc' := 20) rfl ?_)
      refine z_aload_n C d_V_gather_20 rfl (z_pc (pc' := 21) rfl ?_)
      obtain ⟨x9, h10, hf⟩ := zbind hf
      refine z_geti C fl_V_181 h10 d_V_gather_21 (z_pc (pc' := 24) rfl ?_)
      refine z_aload_n C d_V_gather_24 rfl (z_pc (pc' := 25) rfl ?_)
      obtain ⟨M11, h12, hf⟩ := zbind hf
      refine z_aast C (by decide) h12 d_V_gather_25 (z_pc (pc' := 26) rfl ?_)
      refine z_aload_n C d_V_gather_26 rfl (z_pc (pc' := 27) rfl ?_)
      refine z_dupr C d_V_gather_27 (z_pc (pc' := 28) rfl ?_)
      obtain ⟨x13, h14, hf⟩ := zbind hf
      refine z_geti C fl_V_181 h14 d_V_gather_28 (z_pc (pc' := 31) rfl ?_)
      refine z_iconst C d_V_gather_31 (z_pc (pc' := 32) rfl ?_)
      refine z_iadd C d_V_gather_32 (z_pc (pc' := 33) rfl ?_)
      obtain ⟨M15, h16, hf⟩ := zbind hf
      refine z_puti C fp_V_181 (by decide) rfl h16 d_V_gather_33 (z_pc (pc' := 36) rfl ?_)
      refine z_aload_n C d_V_gather_36 rfl (z_pc (pc' := 37) rfl ?_)
      obtain ⟨M18, h17, hf⟩ := zbind hf
      refine n4_V_190 C [] h17 ⟨(Nat.le_of_ble_eq_true rfl), (Nat.le_of_ble_eq_true rfl)⟩ (Nat.le_of_ble_eq_true rfl) ⟨(Nat.le_of_ble_eq_true rfl), (Nat.le_of_ble_eq_true rfl)⟩ d_V_gather_37 (z_pc (pc' := 42) rfl ?_)
      refine z_aload_n C d_V_gather_42 rfl (z_pc (pc' := 43) rfl ?_)
      obtain ⟨x21, M20, h19, hf⟩ := zb2_inv hf
      refine n4_V_184 C [] h19 ⟨(Nat.le_of_ble_eq_true rfl), (Nat.le_of_ble_eq_true rfl)⟩ (Nat.le_of_ble_eq_true rfl) ⟨(Nat.le_of_ble_eq_true rfl), (Nat.le_of_ble_eq_true rfl)⟩ d_V_gather_43 (z_pc (pc' := 48) rfl ?_)
      refine z_astore_n C d_V_gather_48 (by decide) (z_pl (pc' := 49) (L' := [some (zv n0 a0), some (zv n0 a1), some (zv n0 x21)]) rfl rfl ?_)
      refine z_goto (tgt := 12) C d_V_gather_49 (by decide) ?_
      exact z_sub2 (ih _ _ hf) (And.intro rfl (And.intro rfl (And.intro rfl trivial)))
theorem e_V_gather {a0 : Nat} {a1 : Nat} {M : zHp} {q : zHp} (hf : f_V_gather a0 a1 M = some q) : zk M a0 = 0 := by
  unfold f_V_gather at hf
  exact (zif hf).1
set_option maxHeartbeats 4000000 in
set_option maxRecDepth 100000 in
theorem c_V_gather (D : va_G) (n0 : Nat) (l : Launch) {a0 : Nat} {a1 : Nat} {M : zHp} {M' : zHp} (hf : f_V_gather a0 a1 M = some M') : zM D n0 l y_V_gather b_V_gather 3 none 3 66 0 0 [zv n0 a0, zv n0 a1] M none M' := by
  refine zM.ofZ (by decide) (zcr (zcr zcn)) (Nat.le_of_ble_eq_true rfl) ?_
  intro p e s m below meth c C hr hnm
  have C : zC D n0 p s m meth c b_V_gather 3 "LayerVault" := C
  refine z_eqL (L' := [some (zv n0 a0), some (zv n0 a1), none]) rfl ?_
  unfold f_V_gather at hf
  have hf := (zif hf).2
  refine z_aload_n C d_V_gather_0 rfl (z_pc (pc' := 1) rfl ?_)
  refine z_iconst C d_V_gather_1 (z_pc (pc' := 2) rfl ?_)
  obtain ⟨M1, h2, hf⟩ := zbind hf
  refine z_puti C fp_V_181 (by decide) rfl h2 d_V_gather_2 (z_pc (pc' := 5) rfl ?_)
  refine z_aload_n C d_V_gather_5 rfl (z_pc (pc' := 6) rfl ?_)
  obtain ⟨x5, M4, h3, hf⟩ := zb2_inv hf
  refine n4_V_184 C [] h3 ⟨(Nat.le_of_ble_eq_true rfl), (Nat.le_of_ble_eq_true rfl)⟩ (Nat.le_of_ble_eq_true rfl) ⟨(Nat.le_of_ble_eq_true rfl), (Nat.le_of_ble_eq_true rfl)⟩ d_V_gather_6 (z_pc (pc' := 11) rfl ?_)
  refine z_astore_n C d_V_gather_11 (by decide) (z_pl (pc' := 12) (L' := [some (zv n0 a0), some (zv n0 a1), some (zv n0 x5)]) rfl rfl ?_)
  refine z_sub2 (w_V_gather_L12 C hr ?_ _ _ _ hf) (And.intro rfl (And.intro rfl (And.intro rfl trivial)))
  intro M22 hf
  exact z_vret C hr (Nat.le_of_ble_eq_true rfl) (Nat.le_of_ble_eq_true rfl) d_V_gather_52 hf
set_option maxHeartbeats 4000000 in
set_option maxRecDepth 100000 in
theorem w_V_between_L16 {D : va_G} {n0 : Nat} {l : Launch} {p : Program} {e : Env} {s : State} {m : MethodId} {args : Array Value} {below : List Frame} {meth : Method} {c : Code} {a1 : Int} {a2 : Int} {a4 : Nat} {a5 : Int} {r : Int} {M' : zHp} {κ : Int → zHp → Option (Int × zHp)} (C : zC D n0 p s m meth c b_V_between 8 "LayerVault") (hr : meth.sig.returnType = (some .boolean))
    (hκ : ∀ (u3 : Int) (M1 : zHp), κ u3 M1 = some (r, M') → zZ D n0 p l e { frames := 0, cells := 0, slots := 0, locals := 0 } s m args below meth c 8 0 0 (MQ below (zQc D n0 (some (zi r)) M') args s 0 0 (fun q => n0 ≤ q)) 56 [none, none, none, some (zi u3), none, none, none, none] [] M1) :
    ∀ (n : Nat) (v3 : Int) (v6 : Int) (M : zHp), f_V_between_L16 κ a1 a2 a4 a5 n v3 v6 M = some (r, M') → zZ D n0 p l e { frames := 0, cells := 0, slots := 0, locals := 0 } s m args below meth c 8 0 0 (MQ below (zQc D n0 (some (zi r)) M') args s 0 0 (fun q => n0 ≤ q)) 16 [none, some (zi a1), some (zi a2), some (zi v3), some (zv n0 a4), some (zi a5), some (zi v6), none] [] M := by
  intro n
  induction n with
  | zero =>
    intro v3 v6 M hf
    exact absurd hf (by unfold f_V_between_L16; simp)
  | succ n ih =>
    intro v3 v6 M hf
    unfold f_V_between_L16 at hf
    refine z_iload C d_V_between_16 rfl (z_pc (pc' := 18) rfl ?_)
    refine z_iload C d_V_between_18 rfl (z_pc (pc' := 20) rfl ?_)
    refine z_icmp_ge (tgt := 56) C d_V_between_20 (by decide) (fun c5 => ?_) (fun c5 => z_pc (pc' := 23) rfl ?_)
    · have hf := zpos c5 hf
      exact z_sub2 (hκ _ _ hf) (And.intro rfl trivial)
    · have hf := zneg c5 hf
      refine z_aload C d_V_between_23 rfl (z_pc (pc' := 25) rfl ?_)
      refine z_iload C d_V_between_25 rfl (z_pc (pc' := 27) rfl ?_)
      obtain ⟨x6, h7, hf⟩ := zbind hf
      refine z_iald C h7 d_V_between_27 (z_pc (pc' := 28) rfl ?_)
      refine z_istore C d_V_between_28 (by decide) (z_pl (pc' := 30) (L' := [none, some (zi a1), some (zi a2), some (zi v3), some (zv n0 a4), some (zi a5), some (zi v6), some (zi x6)]) rfl rfl ?_)
      refine z_iload_n C d_V_between_30 rfl (z_pc (pc' := 31) rfl ?_)
      refine z_iload C d_V_between_31 rfl (z_pc (pc' := 33) rfl ?_)
      refine z_iload_n C d_V_between_33 rfl (z_pc (pc' := 34) rfl ?_)
      refine z_icmp_lt (tgt := 47) C d_V_between_34 (by decide) (fun c8 => ?_) (fun c8 => z_pc (pc' := 37) rfl ?_)
      · have hf := zpos c8 hf
        refine z_iconst C d_V_between_47 (z_pc (pc' := 48) rfl ?_)
        refine z_ior C d_V_between_48 (z_pc (pc' := 49) rfl ?_)
        refine z_istore_n C d_V_between_49 (by decide) (z_pl (pc' := 50) (L' := [none, some (zi a1), some (zi a2), some (zi (zor v3 0)), some (zv n0 a4), some (zi a5), some (zi v6), some (zi x6)]) rfl rfl ?_)
        refine z_iinc C d_V_between_50 rfl (by decide) (z_pl (pc' := 53) (L' := [none, some (zi a1), some (zi a2), some (zi (zor v3 0)), some (zv n0 a4), some (zi a5), some (zi (zadd v6 1)), some (zi x6)]) rfl rfl ?_)
        refine z_goto (tgt := 16) C d_V_between_53 (by decide) ?_
        exact z_sub2 (ih _ _ _ hf) (And.intro rfl (And.intro rfl (And.intro rfl (And.intro rfl (And.intro rfl (And.intro rfl trivial))))))
      · have hf := zneg c8 hf
        refine z_iload C d_V_between_37 rfl (z_pc (pc' := 39) rfl ?_)
        refine z_iload_n C d_V_between_39 rfl (z_pc (pc' := 40) rfl ?_)
        refine z_icmp_ge (tgt := 47) C d_V_between_40 (by decide) (fun c9 => ?_) (fun c9 => z_pc (pc' := 43) rfl ?_)
        · have hf := zpos c9 hf
          refine z_iconst C d_V_between_47 (z_pc (pc' := 48) rfl ?_)
          refine z_ior C d_V_between_48 (z_pc (pc' := 49) rfl ?_)
          refine z_istore_n C d_V_between_49 (by decide) (z_pl (pc' := 50) (L' := [none, some (zi a1), some (zi a2), some (zi (zor v3 0)), some (zv n0 a4), some (zi a5), some (zi v6), some (zi x6)]) rfl rfl ?_)
          refine z_iinc C d_V_between_50 rfl (by decide) (z_pl (pc' := 53) (L' := [none, some (zi a1), some (zi a2), some (zi (zor v3 0)), some (zv n0 a4), some (zi a5), some (zi (zadd v6 1)), some (zi x6)]) rfl rfl ?_)
          refine z_goto (tgt := 16) C d_V_between_53 (by decide) ?_
          exact z_sub2 (ih _ _ _ hf) (And.intro rfl (And.intro rfl (And.intro rfl (And.intro rfl (And.intro rfl (And.intro rfl trivial))))))
        · have hf := zneg c9 hf
          refine z_iconst C d_V_between_43 (z_pc (pc' := 44) rfl ?_)
          refine z_goto (tgt := 48) C d_V_between_44 (by decide) ?_
          refine z_ior C d_V_between_48 (z_pc (pc' := 49) rfl ?_)
          refine z_istore_n C d_V_between_49 (by decide) (z_pl (pc' := 50) (L' := [none, some (zi a1), some (zi a2), some (zi (zor v3 1)), some (zv n0 a4), some (zi a5), some (zi v6), some (zi x6)]) rfl rfl ?_)
          refine z_iinc C d_V_between_50 rfl (by decide) (z_pl (pc' := 53) (L' := [none, some (zi a1), some (zi a2), some (zi (zor v3 1)), some (zv n0 a4), some (zi a5), some (zi (zadd v6 1)), some (zi x6)]) rfl rfl ?_)
          refine z_goto (tgt := 16) C d_V_between_53 (by decide) ?_
          exact z_sub2 (ih _ _ _ hf) (And.intro rfl (And.intro rfl (And.intro rfl (And.intro rfl (And.intro rfl (And.intro rfl trivial))))))
theorem e_V_between {a0 : Nat} {a1 : Int} {a2 : Int} {M : zHp} {q : Int × zHp} (hf : f_V_between a0 a1 a2 M = some q) : zk M a0 = 0 := by
  unfold f_V_between at hf
  exact (zif hf).1
set_option maxHeartbeats 4000000 in
set_option maxRecDepth 100000 in
theorem c_V_between (D : va_G) (n0 : Nat) (l : Launch) {a0 : Nat} {a1 : Int} {a2 : Int} {M : zHp} {r : Int} {M' : zHp} (hf : f_V_between a0 a1 a2 M = some (r, M')) : zM D n0 l y_V_between b_V_between 8 (some .boolean) 0 0 0 0 [zv n0 a0, zi a1, zi a2] M (some (zi r)) M' := by
  refine zM.ofZ (by decide) (zcr (zci (zci zcn))) (Nat.le_of_ble_eq_true rfl) ?_
  intro p e s m below meth c C hr hnm
  have C : zC D n0 p s m meth c b_V_between 8 "LayerVault" := C
  refine z_eqL (L' := [some (zv n0 a0), some (zi a1), some (zi a2), none, none, none, none, none]) rfl ?_
  unfold f_V_between at hf
  have hf := (zif hf).2
  refine z_iconst C d_V_between_0 (z_pc (pc' := 1) rfl ?_)
  refine z_istore_n C d_V_between_1 (by decide) (z_pl (pc' := 2) (L' := [some (zv n0 a0), some (zi a1), some (zi a2), some (zi 0), none, none, none, none]) rfl rfl ?_)
  refine z_aload_n C d_V_between_2 rfl (z_pc (pc' := 3) rfl ?_)
  obtain ⟨x1, h2, hf⟩ := zbind hf
  refine z_getr C fl_V_36 rfl h2 d_V_between_3 (z_pc (pc' := 6) rfl ?_)
  refine z_astore C d_V_between_6 (by decide) (z_pl (pc' := 8) (L' := [some (zv n0 a0), some (zi a1), some (zi a2), some (zi 0), some (zv n0 x1), none, none, none]) rfl rfl ?_)
  refine z_aload C d_V_between_8 rfl (z_pc (pc' := 10) rfl ?_)
  obtain ⟨x3, h4, hf⟩ := zbind hf
  refine z_alen C h4 d_V_between_10 (z_pc (pc' := 11) rfl ?_)
  refine z_istore C d_V_between_11 (by decide) (z_pl (pc' := 13) (L' := [some (zv n0 a0), some (zi a1), some (zi a2), some (zi 0), some (zv n0 x1), some (zi x3), none, none]) rfl rfl ?_)
  refine z_iconst C d_V_between_13 (z_pc (pc' := 14) rfl ?_)
  refine z_istore C d_V_between_14 (by decide) (z_pl (pc' := 16) (L' := [some (zv n0 a0), some (zi a1), some (zi a2), some (zi 0), some (zv n0 x1), some (zi x3), some (zi 0), none]) rfl rfl ?_)
  refine z_sub2 (w_V_between_L16 C hr ?_ _ _ _ _ hf) (And.intro rfl (And.intro rfl (And.intro rfl (And.intro rfl (And.intro rfl (And.intro rfl trivial))))))
  intro v10 M11 hf
  refine z_iload_n C d_V_between_56 rfl (z_pc (pc' := 57) rfl ?_)
  obtain ⟨hz, hf⟩ := zif hf
  exact z_zret C hr hz (Nat.le_of_ble_eq_true rfl) (Nat.le_of_ble_eq_true rfl) d_V_between_57 hf
set_option maxHeartbeats 4000000 in
set_option maxRecDepth 100000 in
theorem w_V_sift_L4 {D : va_G} {n0 : Nat} {l : Launch} {p : Program} {e : Env} {s : State} {m : MethodId} {args : Array Value} {below : List Frame} {meth : Method} {c : Code} {a0 : Nat} {a1 : Int} {a2 : Int} {r : Int} {M' : zHp} {κ : zHp → Option (Int × zHp)} (C : zC D n0 p s m meth c b_V_sift 5 "LayerVault") (hr : meth.sig.returnType = (some .int))
    (hκ : ∀ (M1 : zHp), κ M1 = some (r, M') → zZ D n0 p l e { frames := 1, cells := 0, slots := 0, locals := 27 } s m args below meth c 5 0 0 (MQ below (zQc D n0 (some (zi r)) M') args s 0 0 (fun q => n0 ≤ q)) 95 [some (zv n0 a0), some (zi a1), some (zi a2), none, none] [] M1) :
    ∀ (n : Nat) (v3 : Int) (M : zHp), f_V_sift_L4 κ a0 n v3 M = some (r, M') → zZ D n0 p l e { frames := 1, cells := 0, slots := 0, locals := 27 } s m args below meth c 5 0 0 (MQ below (zQc D n0 (some (zi r)) M') args s 0 0 (fun q => n0 ≤ q)) 4 [some (zv n0 a0), some (zi a1), some (zi a2), some (zi v3), none] [] M := by
  intro n
  induction n with
  | zero =>
    intro v3 M hf
    exact absurd hf (by unfold f_V_sift_L4; simp)
  | succ n ih =>
    intro v3 M hf
    unfold f_V_sift_L4 at hf
    refine z_iload_n C d_V_sift_4 rfl (z_pc (pc' := 5) rfl ?_)
    refine z_aload_n C d_V_sift_5 rfl (z_pc (pc' := 6) rfl ?_)
    obtain ⟨x1, h2, hf⟩ := zbind hf
    refine z_geti C fl_V_181 h2 d_V_sift_6 (z_pc (pc' := 9) rfl ?_)
    refine z_icmp_ge (tgt := 95) C d_V_sift_9 (by decide) (fun c3 => ?_) (fun c3 => z_pc (pc' := 12) rfl ?_)
    · have hf := zpos c3 hf
      exact z_sub2 (hκ _ hf) (And.intro rfl (And.intro rfl (And.intro rfl trivial)))
    · have hf := zneg c3 hf
      refine z_iload_n C d_V_sift_12 rfl (z_pc (pc' := 13) rfl ?_)
      refine z_if_le (tgt := 70) C d_V_sift_13 (by decide) (fun c4 => ?_) (fun c4 => z_pc (pc' := 16) rfl ?_)
      · have hf := zpos c4 hf
        refine z_iconst C d_V_sift_70 (z_pc (pc' := 71) rfl ?_)
        refine z_istore C d_V_sift_71 (by decide) (z_pl (pc' := 73) (L' := [some (zv n0 a0), some (zi a1), some (zi a2), some (zi v3), some (zi 0)]) rfl rfl ?_)
        refine z_aload_n C d_V_sift_73 rfl (z_pc (pc' := 74) rfl ?_)
        obtain ⟨x5, h6, hf⟩ := zbind hf
        refine z_getr C fl_V_71 rfl h6 d_V_sift_74 (z_pc (pc' := 77) rfl ?_)
        refine z_iload_n C d_V_sift_77 rfl (z_pc (pc' := 78) rfl ?_)
        refine z_iload C d_V_sift_78 rfl (z_pc (pc' := 80) rfl ?_)
        refine z_if_ne (tgt := 87) C d_V_sift_80 (by decide) (fun c7 => absurd c7 (by decide)) (fun _ => z_pc (pc' := 83) rfl ?_)
        refine z_iconst C d_V_sift_83 (z_pc (pc' := 84) rfl ?_)
        refine z_goto (tgt := 88) C d_V_sift_84 (by decide) ?_
        obtain ⟨M8, h9, hf⟩ := zbind hf
        refine z_bast C h9 d_V_sift_88 (z_pc (pc' := 89) rfl ?_)
        refine z_iinc C d_V_sift_89 rfl (by decide) (z_pl (pc' := 92) (L' := [some (zv n0 a0), some (zi a1), some (zi a2), some (zi (zadd v3 1)), some (zi 0)]) rfl rfl ?_)
        refine z_goto (tgt := 4) C d_V_sift_92 (by decide) ?_
        exact z_sub2 (ih _ _ hf) (And.intro rfl (And.intro rfl (And.intro rfl (And.intro rfl trivial))))
      · have hf := zneg c4 hf
        refine z_aload_n C d_V_sift_16 rfl (z_pc (pc' := 17) rfl ?_)
        obtain ⟨x10, h11, hf⟩ := zbind hf
        refine z_getr C fl_V_67 rfl h11 d_V_sift_17 (z_pc (pc' := 20) rfl ?_)
        refine z_iload_n C d_V_sift_20 rfl (z_pc (pc' := 21) rfl ?_)
        refine z_iconst C d_V_sift_21 (z_pc (pc' := 22) rfl ?_)
        refine z_isub C d_V_sift_22 (z_pc (pc' := 23) rfl ?_)
        obtain ⟨x12, h13, hf⟩ := zbind hf
        refine z_aald C (by decide) h13 d_V_sift_23 (z_pc (pc' := 24) rfl ?_)
        obtain ⟨x14, h15, hf⟩ := zbind hf
        refine z_geti C fl_V_156 h15 d_V_sift_24 (z_pc (pc' := 27) rfl ?_)
        refine z_aload_n C d_V_sift_27 rfl (z_pc (pc' := 28) rfl ?_)
        obtain ⟨x16, h17, hf⟩ := zbind hf
        refine z_getr C fl_V_67 rfl h17 d_V_sift_28 (z_pc (pc' := 31) rfl ?_)
        refine z_iload_n C d_V_sift_31 rfl (z_pc (pc' := 32) rfl ?_)
        obtain ⟨x18, h19, hf⟩ := zbind hf
        refine z_aald C (by decide) h19 d_V_sift_32 (z_pc (pc' := 33) rfl ?_)
        obtain ⟨x20, h21, hf⟩ := zbind hf
        refine z_geti C fl_V_156 h21 d_V_sift_33 (z_pc (pc' := 36) rfl ?_)
        refine z_icmp_ne (tgt := 70) C d_V_sift_36 (by decide) (fun c22 => ?_) (fun c22 => z_pc (pc' := 39) rfl ?_)
        · have hf := zneg c22 hf
          refine z_iconst C d_V_sift_70 (z_pc (pc' := 71) rfl ?_)
          refine z_istore C d_V_sift_71 (by decide) (z_pl (pc' := 73) (L' := [some (zv n0 a0), some (zi a1), some (zi a2), some (zi v3), some (zi 0)]) rfl rfl ?_)
          refine z_aload_n C d_V_sift_73 rfl (z_pc (pc' := 74) rfl ?_)
          obtain ⟨x23, h24, hf⟩ := zbind hf
          refine z_getr C fl_V_71 rfl h24 d_V_sift_74 (z_pc (pc' := 77) rfl ?_)
          refine z_iload_n C d_V_sift_77 rfl (z_pc (pc' := 78) rfl ?_)
          refine z_iload C d_V_sift_78 rfl (z_pc (pc' := 80) rfl ?_)
          refine z_if_ne (tgt := 87) C d_V_sift_80 (by decide) (fun c25 => absurd c25 (by decide)) (fun _ => z_pc (pc' := 83) rfl ?_)
          refine z_iconst C d_V_sift_83 (z_pc (pc' := 84) rfl ?_)
          refine z_goto (tgt := 88) C d_V_sift_84 (by decide) ?_
          obtain ⟨M26, h27, hf⟩ := zbind hf
          refine z_bast C h27 d_V_sift_88 (z_pc (pc' := 89) rfl ?_)
          refine z_iinc C d_V_sift_89 rfl (by decide) (z_pl (pc' := 92) (L' := [some (zv n0 a0), some (zi a1), some (zi a2), some (zi (zadd v3 1)), some (zi 0)]) rfl rfl ?_)
          refine z_goto (tgt := 4) C d_V_sift_92 (by decide) ?_
          exact z_sub2 (ih _ _ hf) (And.intro rfl (And.intro rfl (And.intro rfl (And.intro rfl trivial))))
        · have hf := zpos c22 hf
          refine z_aload_n C d_V_sift_39 rfl (z_pc (pc' := 40) rfl ?_)
          refine z_aload_n C d_V_sift_40 rfl (z_pc (pc' := 41) rfl ?_)
          obtain ⟨x28, h29, hf⟩ := zbind hf
          refine z_getr C fl_V_67 rfl h29 d_V_sift_41 (z_pc (pc' := 44) rfl ?_)
          refine z_iload_n C d_V_sift_44 rfl (z_pc (pc' := 45) rfl ?_)
          obtain ⟨x30, h31, hf⟩ := zbind hf
          refine z_aald C (by decide) h31 d_V_sift_45 (z_pc (pc' := 46) rfl ?_)
          obtain ⟨x32, h33, hf⟩ := zbind hf
          refine z_geti C fl_V_163 h33 d_V_sift_46 (z_pc (pc' := 49) rfl ?_)
          refine z_aload_n C d_V_sift_49 rfl (z_pc (pc' := 50) rfl ?_)
          obtain ⟨x34, h35, hf⟩ := zbind hf
          refine z_getr C fl_V_67 rfl h35 d_V_sift_50 (z_pc (pc' := 53) rfl ?_)
          refine z_iload_n C d_V_sift_53 rfl (z_pc (pc' := 54) rfl ?_)
          refine z_iconst C d_V_sift_54 (z_pc (pc' := 55) rfl ?_)
          refine z_isub C d_V_sift_55 (z_pc (pc' := 56) rfl ?_)
          obtain ⟨x36, h37, hf⟩ := zbind hf
          refine z_aald C (by decide) h37 d_V_sift_56 (z_pc (pc' := 57) rfl ?_)
          obtain ⟨x38, h39, hf⟩ := zbind hf
          refine z_geti C fl_V_163 h39 d_V_sift_57 (z_pc (pc' := 60) rfl ?_)
          obtain ⟨x42, M41, h40, hf⟩ := zb2_inv hf
          refine z_callV C [zi x32, zi x38] [] kv_V_193 (c_V_between D n0 l h40) (e_V_between h40) ⟨(Nat.le_of_ble_eq_true rfl), (Nat.le_of_ble_eq_true rfl)⟩ (Nat.le_of_ble_eq_true rfl) ⟨(Nat.le_of_ble_eq_true rfl), (Nat.le_of_ble_eq_true rfl)⟩ d_V_sift_60 (z_pc (pc' := 63) rfl ?_)
          refine z_if_ne (tgt := 70) C d_V_sift_63 (by decide) (fun c43 => ?_) (fun c43 => z_pc (pc' := 66) rfl ?_)
          · have hf := zneg c43 hf
            refine z_iconst C d_V_sift_70 (z_pc (pc' := 71) rfl ?_)
            refine z_istore C d_V_sift_71 (by decide) (z_pl (pc' := 73) (L' := [some (zv n0 a0), some (zi a1), some (zi a2), some (zi v3), some (zi 0)]) rfl rfl ?_)
            refine z_aload_n C d_V_sift_73 rfl (z_pc (pc' := 74) rfl ?_)
            obtain ⟨x44, h45, hf⟩ := zbind hf
            refine z_getr C fl_V_71 rfl h45 d_V_sift_74 (z_pc (pc' := 77) rfl ?_)
            refine z_iload_n C d_V_sift_77 rfl (z_pc (pc' := 78) rfl ?_)
            refine z_iload C d_V_sift_78 rfl (z_pc (pc' := 80) rfl ?_)
            refine z_if_ne (tgt := 87) C d_V_sift_80 (by decide) (fun c46 => absurd c46 (by decide)) (fun _ => z_pc (pc' := 83) rfl ?_)
            refine z_iconst C d_V_sift_83 (z_pc (pc' := 84) rfl ?_)
            refine z_goto (tgt := 88) C d_V_sift_84 (by decide) ?_
            obtain ⟨M47, h48, hf⟩ := zbind hf
            refine z_bast C h48 d_V_sift_88 (z_pc (pc' := 89) rfl ?_)
            refine z_iinc C d_V_sift_89 rfl (by decide) (z_pl (pc' := 92) (L' := [some (zv n0 a0), some (zi a1), some (zi a2), some (zi (zadd v3 1)), some (zi 0)]) rfl rfl ?_)
            refine z_goto (tgt := 4) C d_V_sift_92 (by decide) ?_
            exact z_sub2 (ih _ _ hf) (And.intro rfl (And.intro rfl (And.intro rfl (And.intro rfl trivial))))
          · have hf := zpos c43 hf
            refine z_iconst C d_V_sift_66 (z_pc (pc' := 67) rfl ?_)
            refine z_goto (tgt := 71) C d_V_sift_67 (by decide) ?_
            refine z_istore C d_V_sift_71 (by decide) (z_pl (pc' := 73) (L' := [some (zv n0 a0), some (zi a1), some (zi a2), some (zi v3), some (zi 1)]) rfl rfl ?_)
            refine z_aload_n C d_V_sift_73 rfl (z_pc (pc' := 74) rfl ?_)
            obtain ⟨x49, h50, hf⟩ := zbind hf
            refine z_getr C fl_V_71 rfl h50 d_V_sift_74 (z_pc (pc' := 77) rfl ?_)
            refine z_iload_n C d_V_sift_77 rfl (z_pc (pc' := 78) rfl ?_)
            refine z_iload C d_V_sift_78 rfl (z_pc (pc' := 80) rfl ?_)
            refine z_if_ne (tgt := 87) C d_V_sift_80 (by decide) (fun _ => ?_) (fun c51 => absurd c51 (by decide))
            refine z_iconst C d_V_sift_87 (z_pc (pc' := 88) rfl ?_)
            obtain ⟨M52, h53, hf⟩ := zbind hf
            refine z_bast C h53 d_V_sift_88 (z_pc (pc' := 89) rfl ?_)
            refine z_iinc C d_V_sift_89 rfl (by decide) (z_pl (pc' := 92) (L' := [some (zv n0 a0), some (zi a1), some (zi a2), some (zi (zadd v3 1)), some (zi 1)]) rfl rfl ?_)
            refine z_goto (tgt := 4) C d_V_sift_92 (by decide) ?_
            exact z_sub2 (ih _ _ hf) (And.intro rfl (And.intro rfl (And.intro rfl (And.intro rfl trivial))))
set_option maxHeartbeats 4000000 in
set_option maxRecDepth 100000 in
theorem w_V_sift_L105 {D : va_G} {n0 : Nat} {l : Launch} {p : Program} {e : Env} {s : State} {m : MethodId} {args : Array Value} {below : List Frame} {meth : Method} {c : Code} {a0 : Nat} {a1 : Int} {r : Int} {M' : zHp} {κ : Int → zHp → Option (Int × zHp)} (C : zC D n0 p s m meth c b_V_sift 5 "LayerVault") (hr : meth.sig.returnType = (some .int))
    (hκ : ∀ (u2 : Int) (M1 : zHp), κ u2 M1 = some (r, M') → zZ D n0 p l e { frames := 1, cells := 0, slots := 0, locals := 27 } s m args below meth c 5 0 0 (MQ below (zQc D n0 (some (zi r)) M') args s 0 0 (fun q => n0 ≤ q)) 225 [none, none, some (zi u2), none, none] [] M1) :
    ∀ (n : Nat) (v2 : Int) (v3 : Int) (v4 : Int) (M : zHp), f_V_sift_L105 κ a0 a1 n v2 v3 v4 M = some (r, M') → zZ D n0 p l e { frames := 1, cells := 0, slots := 0, locals := 27 } s m args below meth c 5 0 0 (MQ below (zQc D n0 (some (zi r)) M') args s 0 0 (fun q => n0 ≤ q)) 105 [some (zv n0 a0), some (zi a1), some (zi v2), some (zi v3), some (zi v4)] [] M := by
  intro n
  induction n with
  | zero =>
    intro v2 v3 v4 M hf
    exact absurd hf (by unfold f_V_sift_L105; simp)
  | succ n ih =>
    intro v2 v3 v4 M hf
    unfold f_V_sift_L105 at hf
    refine z_iload C d_V_sift_105 rfl (z_pc (pc' := 107) rfl ?_)
    refine z_if_lt (tgt := 225) C d_V_sift_107 (by decide) (fun c57 => ?_) (fun c57 => z_pc (pc' := 110) rfl ?_)
    · have hf := zpos c57 hf
      exact z_sub2 (hκ _ _ hf) (And.intro rfl trivial)
    · have hf := zneg c57 hf
      refine z_iload C d_V_sift_110 rfl (z_pc (pc' := 112) rfl ?_)
      refine z_iconst C d_V_sift_112 (z_pc (pc' := 113) rfl ?_)
      refine z_iadd C d_V_sift_113 (z_pc (pc' := 114) rfl ?_)
      refine z_aload_n C d_V_sift_114 rfl (z_pc (pc' := 115) rfl ?_)
      obtain ⟨x58, h59, hf⟩ := zbind hf
      refine z_geti C fl_V_181 h59 d_V_sift_115 (z_pc (pc' := 118) rfl ?_)
      refine z_icmp_ge (tgt := 148) C d_V_sift_118 (by decide) (fun c60 => ?_) (fun c60 => z_pc (pc' := 121) rfl ?_)
      · have hf := zpos c60 hf
        refine z_iload_n C d_V_sift_148 rfl (z_pc (pc' := 149) rfl ?_)
        refine z_if_eq (tgt := 191) C d_V_sift_149 (by decide) (fun c61 => ?_) (fun c61 => z_pc (pc' := 152) rfl ?_)
        · have hf := zpos c61 hf
          refine z_iload_n C d_V_sift_191 rfl (z_pc (pc' := 192) rfl ?_)
          refine z_aload_n C d_V_sift_192 rfl (z_pc (pc' := 193) rfl ?_)
          obtain ⟨x62, h63, hf⟩ := zbind hf
          refine z_getr C fl_V_71 rfl h63 d_V_sift_193 (z_pc (pc' := 196) rfl ?_)
          refine z_iload C d_V_sift_196 rfl (z_pc (pc' := 198) rfl ?_)
          obtain ⟨x64, h65, hf⟩ := zbind hf
          refine z_bald C h65 d_V_sift_198 (z_pc (pc' := 199) rfl ?_)
          refine z_ior C d_V_sift_199 (z_pc (pc' := 200) rfl ?_)
          refine z_istore_n C d_V_sift_200 (by decide) (z_pl (pc' := 201) (L' := [some (zv n0 a0), some (zi a1), some (zi v2), some (zi (zor v3 x64)), some (zi v4)]) rfl rfl ?_)
          refine z_iload_n C d_V_sift_201 rfl (z_pc (pc' := 202) rfl ?_)
          refine z_aload_n C d_V_sift_202 rfl (z_pc (pc' := 203) rfl ?_)
          obtain ⟨x66, h67, hf⟩ := zbind hf
          refine z_getr C fl_V_71 rfl h67 d_V_sift_203 (z_pc (pc' := 206) rfl ?_)
          refine z_iload C d_V_sift_206 rfl (z_pc (pc' := 208) rfl ?_)
          obtain ⟨x68, h69, hf⟩ := zbind hf
          refine z_bald C h69 d_V_sift_208 (z_pc (pc' := 209) rfl ?_)
          refine z_if_eq (tgt := 216) C d_V_sift_209 (by decide) (fun c70 => ?_) (fun c70 => z_pc (pc' := 212) rfl ?_)
          · have hf := zpos c70 hf
            refine z_iconst C d_V_sift_216 (z_pc (pc' := 217) rfl ?_)
            refine z_iadd C d_V_sift_217 (z_pc (pc' := 218) rfl ?_)
            refine z_istore_n C d_V_sift_218 (by decide) (z_pl (pc' := 219) (L' := [some (zv n0 a0), some (zi a1), some (zi (zadd v2 1)), some (zi (zor v3 x64)), some (zi v4)]) rfl rfl ?_)
            refine z_iinc C d_V_sift_219 rfl (by decide) (z_pl (pc' := 222) (L' := [some (zv n0 a0), some (zi a1), some (zi (zadd v2 1)), some (zi (zor v3 x64)), some (zi (zadd v4 (-1)))]) rfl rfl ?_)
            refine z_goto (tgt := 105) C d_V_sift_222 (by decide) ?_
            exact z_sub2 (ih _ _ _ _ hf) (And.intro rfl (And.intro rfl (And.intro rfl (And.intro rfl (And.intro rfl trivial)))))
          · have hf := zneg c70 hf
            refine z_iconst C d_V_sift_212 (z_pc (pc' := 213) rfl ?_)
            refine z_goto (tgt := 217) C d_V_sift_213 (by decide) ?_
            refine z_iadd C d_V_sift_217 (z_pc (pc' := 218) rfl ?_)
            refine z_istore_n C d_V_sift_218 (by decide) (z_pl (pc' := 219) (L' := [some (zv n0 a0), some (zi a1), some (zi (zadd v2 0)), some (zi (zor v3 x64)), some (zi v4)]) rfl rfl ?_)
            refine z_iinc C d_V_sift_219 rfl (by decide) (z_pl (pc' := 222) (L' := [some (zv n0 a0), some (zi a1), some (zi (zadd v2 0)), some (zi (zor v3 x64)), some (zi (zadd v4 (-1)))]) rfl rfl ?_)
            refine z_goto (tgt := 105) C d_V_sift_222 (by decide) ?_
            exact z_sub2 (ih _ _ _ _ hf) (And.intro rfl (And.intro rfl (And.intro rfl (And.intro rfl (And.intro rfl trivial)))))
        · have hf := zneg c61 hf
          refine z_aload_n C d_V_sift_152 rfl (z_pc (pc' := 153) rfl ?_)
          obtain ⟨x71, h72, hf⟩ := zbind hf
          refine z_getr C fl_V_71 rfl h72 d_V_sift_153 (z_pc (pc' := 156) rfl ?_)
          refine z_iload C d_V_sift_156 rfl (z_pc (pc' := 158) rfl ?_)
          obtain ⟨x73, h74, hf⟩ := zbind hf
          refine z_bald C h74 d_V_sift_158 (z_pc (pc' := 159) rfl ?_)
          refine z_if_eq (tgt := 191) C d_V_sift_159 (by decide) (fun c75 => ?_) (fun c75 => z_pc (pc' := 162) rfl ?_)
          · have hf := zpos c75 hf
            refine z_iload_n C d_V_sift_191 rfl (z_pc (pc' := 192) rfl ?_)
            refine z_aload_n C d_V_sift_192 rfl (z_pc (pc' := 193) rfl ?_)
            obtain ⟨x76, h77, hf⟩ := zbind hf
            refine z_getr C fl_V_71 rfl h77 d_V_sift_193 (z_pc (pc' := 196) rfl ?_)
            refine z_iload C d_V_sift_196 rfl (z_pc (pc' := 198) rfl ?_)
            obtain ⟨x78, h79, hf⟩ := zbind hf
            refine z_bald C h79 d_V_sift_198 (z_pc (pc' := 199) rfl ?_)
            refine z_ior C d_V_sift_199 (z_pc (pc' := 200) rfl ?_)
            refine z_istore_n C d_V_sift_200 (by decide) (z_pl (pc' := 201) (L' := [some (zv n0 a0), some (zi a1), some (zi v2), some (zi (zor v3 x78)), some (zi v4)]) rfl rfl ?_)
            refine z_iload_n C d_V_sift_201 rfl (z_pc (pc' := 202) rfl ?_)
            refine z_aload_n C d_V_sift_202 rfl (z_pc (pc' := 203) rfl ?_)
            obtain ⟨x80, h81, hf⟩ := zbind hf
            refine z_getr C fl_V_71 rfl h81 d_V_sift_203 (z_pc (pc' := 206) rfl ?_)
            refine z_iload C d_V_sift_206 rfl (z_pc (pc' := 208) rfl ?_)
            obtain ⟨x82, h83, hf⟩ := zbind hf
            refine z_bald C h83 d_V_sift_208 (z_pc (pc' := 209) rfl ?_)
            refine z_if_eq (tgt := 216) C d_V_sift_209 (by decide) (fun c84 => ?_) (fun c84 => z_pc (pc' := 212) rfl ?_)
            · have hf := zpos c84 hf
              refine z_iconst C d_V_sift_216 (z_pc (pc' := 217) rfl ?_)
              refine z_iadd C d_V_sift_217 (z_pc (pc' := 218) rfl ?_)
              refine z_istore_n C d_V_sift_218 (by decide) (z_pl (pc' := 219) (L' := [some (zv n0 a0), some (zi a1), some (zi (zadd v2 1)), some (zi (zor v3 x78)), some (zi v4)]) rfl rfl ?_)
              refine z_iinc C d_V_sift_219 rfl (by decide) (z_pl (pc' := 222) (L' := [some (zv n0 a0), some (zi a1), some (zi (zadd v2 1)), some (zi (zor v3 x78)), some (zi (zadd v4 (-1)))]) rfl rfl ?_)
              refine z_goto (tgt := 105) C d_V_sift_222 (by decide) ?_
              exact z_sub2 (ih _ _ _ _ hf) (And.intro rfl (And.intro rfl (And.intro rfl (And.intro rfl (And.intro rfl trivial)))))
            · have hf := zneg c84 hf
              refine z_iconst C d_V_sift_212 (z_pc (pc' := 213) rfl ?_)
              refine z_goto (tgt := 217) C d_V_sift_213 (by decide) ?_
              refine z_iadd C d_V_sift_217 (z_pc (pc' := 218) rfl ?_)
              refine z_istore_n C d_V_sift_218 (by decide) (z_pl (pc' := 219) (L' := [some (zv n0 a0), some (zi a1), some (zi (zadd v2 0)), some (zi (zor v3 x78)), some (zi v4)]) rfl rfl ?_)
              refine z_iinc C d_V_sift_219 rfl (by decide) (z_pl (pc' := 222) (L' := [some (zv n0 a0), some (zi a1), some (zi (zadd v2 0)), some (zi (zor v3 x78)), some (zi (zadd v4 (-1)))]) rfl rfl ?_)
              refine z_goto (tgt := 105) C d_V_sift_222 (by decide) ?_
              exact z_sub2 (ih _ _ _ _ hf) (And.intro rfl (And.intro rfl (And.intro rfl (And.intro rfl (And.intro rfl trivial)))))
          · have hf := zneg c75 hf
            refine z_iload_n C d_V_sift_162 rfl (z_pc (pc' := 163) rfl ?_)
            refine z_if_ne (tgt := 191) C d_V_sift_163 (by decide) (fun c85 => ?_) (fun c85 => z_pc (pc' := 166) rfl ?_)
            · have hf := zneg c85 hf
              refine z_iload_n C d_V_sift_191 rfl (z_pc (pc' := 192) rfl ?_)
              refine z_aload_n C d_V_sift_192 rfl (z_pc (pc' := 193) rfl ?_)
              obtain ⟨x86, h87, hf⟩ := zbind hf
              refine z_getr C fl_V_71 rfl h87 d_V_sift_193 (z_pc (pc' := 196) rfl ?_)
              refine z_iload C d_V_sift_196 rfl (z_pc (pc' := 198) rfl ?_)
              obtain ⟨x88, h89, hf⟩ := zbind hf
              refine z_bald C h89 d_V_sift_198 (z_pc (pc' := 199) rfl ?_)
              refine z_ior C d_V_sift_199 (z_pc (pc' := 200) rfl ?_)
              refine z_istore_n C d_V_sift_200 (by decide) (z_pl (pc' := 201) (L' := [some (zv n0 a0), some (zi a1), some (zi v2), some (zi (zor v3 x88)), some (zi v4)]) rfl rfl ?_)
              refine z_iload_n C d_V_sift_201 rfl (z_pc (pc' := 202) rfl ?_)
              refine z_aload_n C d_V_sift_202 rfl (z_pc (pc' := 203) rfl ?_)
              obtain ⟨x90, h91, hf⟩ := zbind hf
              refine z_getr C fl_V_71 rfl h91 d_V_sift_203 (z_pc (pc' := 206) rfl ?_)
              refine z_iload C d_V_sift_206 rfl (z_pc (pc' := 208) rfl ?_)
              obtain ⟨x92, h93, hf⟩ := zbind hf
              refine z_bald C h93 d_V_sift_208 (z_pc (pc' := 209) rfl ?_)
              refine z_if_eq (tgt := 216) C d_V_sift_209 (by decide) (fun c94 => ?_) (fun c94 => z_pc (pc' := 212) rfl ?_)
              · have hf := zpos c94 hf
                refine z_iconst C d_V_sift_216 (z_pc (pc' := 217) rfl ?_)
                refine z_iadd C d_V_sift_217 (z_pc (pc' := 218) rfl ?_)
                refine z_istore_n C d_V_sift_218 (by decide) (z_pl (pc' := 219) (L' := [some (zv n0 a0), some (zi a1), some (zi (zadd v2 1)), some (zi (zor v3 x88)), some (zi v4)]) rfl rfl ?_)
                refine z_iinc C d_V_sift_219 rfl (by decide) (z_pl (pc' := 222) (L' := [some (zv n0 a0), some (zi a1), some (zi (zadd v2 1)), some (zi (zor v3 x88)), some (zi (zadd v4 (-1)))]) rfl rfl ?_)
                refine z_goto (tgt := 105) C d_V_sift_222 (by decide) ?_
                exact z_sub2 (ih _ _ _ _ hf) (And.intro rfl (And.intro rfl (And.intro rfl (And.intro rfl (And.intro rfl trivial)))))
              · have hf := zneg c94 hf
                refine z_iconst C d_V_sift_212 (z_pc (pc' := 213) rfl ?_)
                refine z_goto (tgt := 217) C d_V_sift_213 (by decide) ?_
                refine z_iadd C d_V_sift_217 (z_pc (pc' := 218) rfl ?_)
                refine z_istore_n C d_V_sift_218 (by decide) (z_pl (pc' := 219) (L' := [some (zv n0 a0), some (zi a1), some (zi (zadd v2 0)), some (zi (zor v3 x88)), some (zi v4)]) rfl rfl ?_)
                refine z_iinc C d_V_sift_219 rfl (by decide) (z_pl (pc' := 222) (L' := [some (zv n0 a0), some (zi a1), some (zi (zadd v2 0)), some (zi (zor v3 x88)), some (zi (zadd v4 (-1)))]) rfl rfl ?_)
                refine z_goto (tgt := 105) C d_V_sift_222 (by decide) ?_
                exact z_sub2 (ih _ _ _ _ hf) (And.intro rfl (And.intro rfl (And.intro rfl (And.intro rfl (And.intro rfl trivial)))))
            · have hf := zpos c85 hf
              refine z_aload_n C d_V_sift_166 rfl (z_pc (pc' := 167) rfl ?_)
              obtain ⟨x95, h96, hf⟩ := zbind hf
              refine z_getr C fl_V_67 rfl h96 d_V_sift_167 (z_pc (pc' := 170) rfl ?_)
              refine z_iload C d_V_sift_170 rfl (z_pc (pc' := 172) rfl ?_)
              obtain ⟨x97, h98, hf⟩ := zbind hf
              refine z_aald C (by decide) h98 d_V_sift_172 (z_pc (pc' := 173) rfl ?_)
              refine z_aload_n C d_V_sift_173 rfl (z_pc (pc' := 174) rfl ?_)
              obtain ⟨x99, h100, hf⟩ := zbind hf
              refine z_geti C fl_V_138 h100 d_V_sift_174 (z_pc (pc' := 177) rfl ?_)
              obtain ⟨x103, M102, h101, hf⟩ := zb2_inv hf
              refine z_callV C [zi x99] [] kv_V_197 (c_E_gone D n0 l h101) (e_E_gone h101) ⟨(Nat.le_of_ble_eq_true rfl), (Nat.le_of_ble_eq_true rfl)⟩ (Nat.le_of_ble_eq_true rfl) ⟨(Nat.le_of_ble_eq_true rfl), (Nat.le_of_ble_eq_true rfl)⟩ d_V_sift_177 (z_pc (pc' := 180) rfl ?_)
              refine z_if_eq (tgt := 191) C d_V_sift_180 (by decide) (fun c104 => ?_) (fun c104 => z_pc (pc' := 183) rfl ?_)
              · have hf := zpos c104 hf
                refine z_iload_n C d_V_sift_191 rfl (z_pc (pc' := 192) rfl ?_)
                refine z_aload_n C d_V_sift_192 rfl (z_pc (pc' := 193) rfl ?_)
                obtain ⟨x105, h106, hf⟩ := zbind hf
                refine z_getr C fl_V_71 rfl h106 d_V_sift_193 (z_pc (pc' := 196) rfl ?_)
                refine z_iload C d_V_sift_196 rfl (z_pc (pc' := 198) rfl ?_)
                obtain ⟨x107, h108, hf⟩ := zbind hf
                refine z_bald C h108 d_V_sift_198 (z_pc (pc' := 199) rfl ?_)
                refine z_ior C d_V_sift_199 (z_pc (pc' := 200) rfl ?_)
                refine z_istore_n C d_V_sift_200 (by decide) (z_pl (pc' := 201) (L' := [some (zv n0 a0), some (zi a1), some (zi v2), some (zi (zor v3 x107)), some (zi v4)]) rfl rfl ?_)
                refine z_iload_n C d_V_sift_201 rfl (z_pc (pc' := 202) rfl ?_)
                refine z_aload_n C d_V_sift_202 rfl (z_pc (pc' := 203) rfl ?_)
                obtain ⟨x109, h110, hf⟩ := zbind hf
                refine z_getr C fl_V_71 rfl h110 d_V_sift_203 (z_pc (pc' := 206) rfl ?_)
                refine z_iload C d_V_sift_206 rfl (z_pc (pc' := 208) rfl ?_)
                obtain ⟨x111, h112, hf⟩ := zbind hf
                refine z_bald C h112 d_V_sift_208 (z_pc (pc' := 209) rfl ?_)
                refine z_if_eq (tgt := 216) C d_V_sift_209 (by decide) (fun c113 => ?_) (fun c113 => z_pc (pc' := 212) rfl ?_)
                · have hf := zpos c113 hf
                  refine z_iconst C d_V_sift_216 (z_pc (pc' := 217) rfl ?_)
                  refine z_iadd C d_V_sift_217 (z_pc (pc' := 218) rfl ?_)
                  refine z_istore_n C d_V_sift_218 (by decide) (z_pl (pc' := 219) (L' := [some (zv n0 a0), some (zi a1), some (zi (zadd v2 1)), some (zi (zor v3 x107)), some (zi v4)]) rfl rfl ?_)
                  refine z_iinc C d_V_sift_219 rfl (by decide) (z_pl (pc' := 222) (L' := [some (zv n0 a0), some (zi a1), some (zi (zadd v2 1)), some (zi (zor v3 x107)), some (zi (zadd v4 (-1)))]) rfl rfl ?_)
                  refine z_goto (tgt := 105) C d_V_sift_222 (by decide) ?_
                  exact z_sub2 (ih _ _ _ _ hf) (And.intro rfl (And.intro rfl (And.intro rfl (And.intro rfl (And.intro rfl trivial)))))
                · have hf := zneg c113 hf
                  refine z_iconst C d_V_sift_212 (z_pc (pc' := 213) rfl ?_)
                  refine z_goto (tgt := 217) C d_V_sift_213 (by decide) ?_
                  refine z_iadd C d_V_sift_217 (z_pc (pc' := 218) rfl ?_)
                  refine z_istore_n C d_V_sift_218 (by decide) (z_pl (pc' := 219) (L' := [some (zv n0 a0), some (zi a1), some (zi (zadd v2 0)), some (zi (zor v3 x107)), some (zi v4)]) rfl rfl ?_)
                  refine z_iinc C d_V_sift_219 rfl (by decide) (z_pl (pc' := 222) (L' := [some (zv n0 a0), some (zi a1), some (zi (zadd v2 0)), some (zi (zor v3 x107)), some (zi (zadd v4 (-1)))]) rfl rfl ?_)
                  refine z_goto (tgt := 105) C d_V_sift_222 (by decide) ?_
                  exact z_sub2 (ih _ _ _ _ hf) (And.intro rfl (And.intro rfl (And.intro rfl (And.intro rfl (And.intro rfl trivial)))))
              · have hf := zneg c104 hf
                refine z_aload_n C d_V_sift_183 rfl (z_pc (pc' := 184) rfl ?_)
                obtain ⟨x114, h115, hf⟩ := zbind hf
                refine z_getr C fl_V_71 rfl h115 d_V_sift_184 (z_pc (pc' := 187) rfl ?_)
                refine z_iload C d_V_sift_187 rfl (z_pc (pc' := 189) rfl ?_)
                refine z_iconst C d_V_sift_189 (z_pc (pc' := 190) rfl ?_)
                obtain ⟨M116, h117, hf⟩ := zbind hf
                refine z_bast C h117 d_V_sift_190 (z_pc (pc' := 191) rfl ?_)
                refine z_iload_n C d_V_sift_191 rfl (z_pc (pc' := 192) rfl ?_)
                refine z_aload_n C d_V_sift_192 rfl (z_pc (pc' := 193) rfl ?_)
                obtain ⟨x118, h119, hf⟩ := zbind hf
                refine z_getr C fl_V_71 rfl h119 d_V_sift_193 (z_pc (pc' := 196) rfl ?_)
                refine z_iload C d_V_sift_196 rfl (z_pc (pc' := 198) rfl ?_)
                obtain ⟨x120, h121, hf⟩ := zbind hf
                refine z_bald C h121 d_V_sift_198 (z_pc (pc' := 199) rfl ?_)
                refine z_ior C d_V_sift_199 (z_pc (pc' := 200) rfl ?_)
                refine z_istore_n C d_V_sift_200 (by decide) (z_pl (pc' := 201) (L' := [some (zv n0 a0), some (zi a1), some (zi v2), some (zi (zor v3 x120)), some (zi v4)]) rfl rfl ?_)
                refine z_iload_n C d_V_sift_201 rfl (z_pc (pc' := 202) rfl ?_)
                refine z_aload_n C d_V_sift_202 rfl (z_pc (pc' := 203) rfl ?_)
                obtain ⟨x122, h123, hf⟩ := zbind hf
                refine z_getr C fl_V_71 rfl h123 d_V_sift_203 (z_pc (pc' := 206) rfl ?_)
                refine z_iload C d_V_sift_206 rfl (z_pc (pc' := 208) rfl ?_)
                obtain ⟨x124, h125, hf⟩ := zbind hf
                refine z_bald C h125 d_V_sift_208 (z_pc (pc' := 209) rfl ?_)
                refine z_if_eq (tgt := 216) C d_V_sift_209 (by decide) (fun c126 => ?_) (fun c126 => z_pc (pc' := 212) rfl ?_)
                · have hf := zpos c126 hf
                  refine z_iconst C d_V_sift_216 (z_pc (pc' := 217) rfl ?_)
                  refine z_iadd C d_V_sift_217 (z_pc (pc' := 218) rfl ?_)
                  refine z_istore_n C d_V_sift_218 (by decide) (z_pl (pc' := 219) (L' := [some (zv n0 a0), some (zi a1), some (zi (zadd v2 1)), some (zi (zor v3 x120)), some (zi v4)]) rfl rfl ?_)
                  refine z_iinc C d_V_sift_219 rfl (by decide) (z_pl (pc' := 222) (L' := [some (zv n0 a0), some (zi a1), some (zi (zadd v2 1)), some (zi (zor v3 x120)), some (zi (zadd v4 (-1)))]) rfl rfl ?_)
                  refine z_goto (tgt := 105) C d_V_sift_222 (by decide) ?_
                  exact z_sub2 (ih _ _ _ _ hf) (And.intro rfl (And.intro rfl (And.intro rfl (And.intro rfl (And.intro rfl trivial)))))
                · have hf := zneg c126 hf
                  refine z_iconst C d_V_sift_212 (z_pc (pc' := 213) rfl ?_)
                  refine z_goto (tgt := 217) C d_V_sift_213 (by decide) ?_
                  refine z_iadd C d_V_sift_217 (z_pc (pc' := 218) rfl ?_)
                  refine z_istore_n C d_V_sift_218 (by decide) (z_pl (pc' := 219) (L' := [some (zv n0 a0), some (zi a1), some (zi (zadd v2 0)), some (zi (zor v3 x120)), some (zi v4)]) rfl rfl ?_)
                  refine z_iinc C d_V_sift_219 rfl (by decide) (z_pl (pc' := 222) (L' := [some (zv n0 a0), some (zi a1), some (zi (zadd v2 0)), some (zi (zor v3 x120)), some (zi (zadd v4 (-1)))]) rfl rfl ?_)
                  refine z_goto (tgt := 105) C d_V_sift_222 (by decide) ?_
                  exact z_sub2 (ih _ _ _ _ hf) (And.intro rfl (And.intro rfl (And.intro rfl (And.intro rfl (And.intro rfl trivial)))))
      · have hf := zneg c60 hf
        refine z_aload_n C d_V_sift_121 rfl (z_pc (pc' := 122) rfl ?_)
        obtain ⟨x127, h128, hf⟩ := zbind hf
        refine z_getr C fl_V_67 rfl h128 d_V_sift_122 (z_pc (pc' := 125) rfl ?_)
        refine z_iload C d_V_sift_125 rfl (z_pc (pc' := 127) rfl ?_)
        refine z_iconst C d_V_sift_127 (z_pc (pc' := 128) rfl ?_)
        refine z_iadd C d_V_sift_128 (z_pc (pc' := 129) rfl ?_)
        obtain ⟨x129, h130, hf⟩ := zbind hf
        refine z_aald C (by decide) h130 d_V_sift_129 (z_pc (pc' := 130) rfl ?_)
        obtain ⟨x131, h132, hf⟩ := zbind hf
        refine z_geti C fl_V_156 h132 d_V_sift_130 (z_pc (pc' := 133) rfl ?_)
        refine z_aload_n C d_V_sift_133 rfl (z_pc (pc' := 134) rfl ?_)
        obtain ⟨x133, h134, hf⟩ := zbind hf
        refine z_getr C fl_V_67 rfl h134 d_V_sift_134 (z_pc (pc' := 137) rfl ?_)
        refine z_iload C d_V_sift_137 rfl (z_pc (pc' := 139) rfl ?_)
        obtain ⟨x135, h136, hf⟩ := zbind hf
        refine z_aald C (by decide) h136 d_V_sift_139 (z_pc (pc' := 140) rfl ?_)
        obtain ⟨x137, h138, hf⟩ := zbind hf
        refine z_geti C fl_V_156 h138 d_V_sift_140 (z_pc (pc' := 143) rfl ?_)
        refine z_icmp_eq (tgt := 148) C d_V_sift_143 (by decide) (fun c139 => ?_) (fun c139 => z_pc (pc' := 146) rfl ?_)
        · have hf := zpos c139 hf
          refine z_iload_n C d_V_sift_148 rfl (z_pc (pc' := 149) rfl ?_)
          refine z_if_eq (tgt := 191) C d_V_sift_149 (by decide) (fun c140 => ?_) (fun c140 => z_pc (pc' := 152) rfl ?_)
          · have hf := zpos c140 hf
            refine z_iload_n C d_V_sift_191 rfl (z_pc (pc' := 192) rfl ?_)
            refine z_aload_n C d_V_sift_192 rfl (z_pc (pc' := 193) rfl ?_)
            obtain ⟨x141, h142, hf⟩ := zbind hf
            refine z_getr C fl_V_71 rfl h142 d_V_sift_193 (z_pc (pc' := 196) rfl ?_)
            refine z_iload C d_V_sift_196 rfl (z_pc (pc' := 198) rfl ?_)
            obtain ⟨x143, h144, hf⟩ := zbind hf
            refine z_bald C h144 d_V_sift_198 (z_pc (pc' := 199) rfl ?_)
            refine z_ior C d_V_sift_199 (z_pc (pc' := 200) rfl ?_)
            refine z_istore_n C d_V_sift_200 (by decide) (z_pl (pc' := 201) (L' := [some (zv n0 a0), some (zi a1), some (zi v2), some (zi (zor v3 x143)), some (zi v4)]) rfl rfl ?_)
            refine z_iload_n C d_V_sift_201 rfl (z_pc (pc' := 202) rfl ?_)
            refine z_aload_n C d_V_sift_202 rfl (z_pc (pc' := 203) rfl ?_)
            obtain ⟨x145, h146, hf⟩ := zbind hf
            refine z_getr C fl_V_71 rfl h146 d_V_sift_203 (z_pc (pc' := 206) rfl ?_)
            refine z_iload C d_V_sift_206 rfl (z_pc (pc' := 208) rfl ?_)
            obtain ⟨x147, h148, hf⟩ := zbind hf
            refine z_bald C h148 d_V_sift_208 (z_pc (pc' := 209) rfl ?_)
            refine z_if_eq (tgt := 216) C d_V_sift_209 (by decide) (fun c149 => ?_) (fun c149 => z_pc (pc' := 212) rfl ?_)
            · have hf := zpos c149 hf
              refine z_iconst C d_V_sift_216 (z_pc (pc' := 217) rfl ?_)
              refine z_iadd C d_V_sift_217 (z_pc (pc' := 218) rfl ?_)
              refine z_istore_n C d_V_sift_218 (by decide) (z_pl (pc' := 219) (L' := [some (zv n0 a0), some (zi a1), some (zi (zadd v2 1)), some (zi (zor v3 x143)), some (zi v4)]) rfl rfl ?_)
              refine z_iinc C d_V_sift_219 rfl (by decide) (z_pl (pc' := 222) (L' := [some (zv n0 a0), some (zi a1), some (zi (zadd v2 1)), some (zi (zor v3 x143)), some (zi (zadd v4 (-1)))]) rfl rfl ?_)
              refine z_goto (tgt := 105) C d_V_sift_222 (by decide) ?_
              exact z_sub2 (ih _ _ _ _ hf) (And.intro rfl (And.intro rfl (And.intro rfl (And.intro rfl (And.intro rfl trivial)))))
            · have hf := zneg c149 hf
              refine z_iconst C d_V_sift_212 (z_pc (pc' := 213) rfl ?_)
              refine z_goto (tgt := 217) C d_V_sift_213 (by decide) ?_
              refine z_iadd C d_V_sift_217 (z_pc (pc' := 218) rfl ?_)
              refine z_istore_n C d_V_sift_218 (by decide) (z_pl (pc' := 219) (L' := [some (zv n0 a0), some (zi a1), some (zi (zadd v2 0)), some (zi (zor v3 x143)), some (zi v4)]) rfl rfl ?_)
              refine z_iinc C d_V_sift_219 rfl (by decide) (z_pl (pc' := 222) (L' := [some (zv n0 a0), some (zi a1), some (zi (zadd v2 0)), some (zi (zor v3 x143)), some (zi (zadd v4 (-1)))]) rfl rfl ?_)
              refine z_goto (tgt := 105) C d_V_sift_222 (by decide) ?_
              exact z_sub2 (ih _ _ _ _ hf) (And.intro rfl (And.intro rfl (And.intro rfl (And.intro rfl (And.intro rfl trivial)))))
          · have hf := zneg c140 hf
            refine z_aload_n C d_V_sift_152 rfl (z_pc (pc' := 153) rfl ?_)
            obtain ⟨x150, h151, hf⟩ := zbind hf
            refine z_getr C fl_V_71 rfl h151 d_V_sift_153 (z_pc (pc' := 156) rfl ?_)
            refine z_iload C d_V_sift_156 rfl (z_pc (pc' := 158) rfl ?_)
            obtain ⟨x152, h153, hf⟩ := zbind hf
            refine z_bald C h153 d_V_sift_158 (z_pc (pc' := 159) rfl ?_)
            refine z_if_eq (tgt := 191) C d_V_sift_159 (by decide) (fun c154 => ?_) (fun c154 => z_pc (pc' := 162) rfl ?_)
            · have hf := zpos c154 hf
              refine z_iload_n C d_V_sift_191 rfl (z_pc (pc' := 192) rfl ?_)
              refine z_aload_n C d_V_sift_192 rfl (z_pc (pc' := 193) rfl ?_)
              obtain ⟨x155, h156, hf⟩ := zbind hf
              refine z_getr C fl_V_71 rfl h156 d_V_sift_193 (z_pc (pc' := 196) rfl ?_)
              refine z_iload C d_V_sift_196 rfl (z_pc (pc' := 198) rfl ?_)
              obtain ⟨x157, h158, hf⟩ := zbind hf
              refine z_bald C h158 d_V_sift_198 (z_pc (pc' := 199) rfl ?_)
              refine z_ior C d_V_sift_199 (z_pc (pc' := 200) rfl ?_)
              refine z_istore_n C d_V_sift_200 (by decide) (z_pl (pc' := 201) (L' := [some (zv n0 a0), some (zi a1), some (zi v2), some (zi (zor v3 x157)), some (zi v4)]) rfl rfl ?_)
              refine z_iload_n C d_V_sift_201 rfl (z_pc (pc' := 202) rfl ?_)
              refine z_aload_n C d_V_sift_202 rfl (z_pc (pc' := 203) rfl ?_)
              obtain ⟨x159, h160, hf⟩ := zbind hf
              refine z_getr C fl_V_71 rfl h160 d_V_sift_203 (z_pc (pc' := 206) rfl ?_)
              refine z_iload C d_V_sift_206 rfl (z_pc (pc' := 208) rfl ?_)
              obtain ⟨x161, h162, hf⟩ := zbind hf
              refine z_bald C h162 d_V_sift_208 (z_pc (pc' := 209) rfl ?_)
              refine z_if_eq (tgt := 216) C d_V_sift_209 (by decide) (fun c163 => ?_) (fun c163 => z_pc (pc' := 212) rfl ?_)
              · have hf := zpos c163 hf
                refine z_iconst C d_V_sift_216 (z_pc (pc' := 217) rfl ?_)
                refine z_iadd C d_V_sift_217 (z_pc (pc' := 218) rfl ?_)
                refine z_istore_n C d_V_sift_218 (by decide) (z_pl (pc' := 219) (L' := [some (zv n0 a0), some (zi a1), some (zi (zadd v2 1)), some (zi (zor v3 x157)), some (zi v4)]) rfl rfl ?_)
                refine z_iinc C d_V_sift_219 rfl (by decide) (z_pl (pc' := 222) (L' := [some (zv n0 a0), some (zi a1), some (zi (zadd v2 1)), some (zi (zor v3 x157)), some (zi (zadd v4 (-1)))]) rfl rfl ?_)
                refine z_goto (tgt := 105) C d_V_sift_222 (by decide) ?_
                exact z_sub2 (ih _ _ _ _ hf) (And.intro rfl (And.intro rfl (And.intro rfl (And.intro rfl (And.intro rfl trivial)))))
              · have hf := zneg c163 hf
                refine z_iconst C d_V_sift_212 (z_pc (pc' := 213) rfl ?_)
                refine z_goto (tgt := 217) C d_V_sift_213 (by decide) ?_
                refine z_iadd C d_V_sift_217 (z_pc (pc' := 218) rfl ?_)
                refine z_istore_n C d_V_sift_218 (by decide) (z_pl (pc' := 219) (L' := [some (zv n0 a0), some (zi a1), some (zi (zadd v2 0)), some (zi (zor v3 x157)), some (zi v4)]) rfl rfl ?_)
                refine z_iinc C d_V_sift_219 rfl (by decide) (z_pl (pc' := 222) (L' := [some (zv n0 a0), some (zi a1), some (zi (zadd v2 0)), some (zi (zor v3 x157)), some (zi (zadd v4 (-1)))]) rfl rfl ?_)
                refine z_goto (tgt := 105) C d_V_sift_222 (by decide) ?_
                exact z_sub2 (ih _ _ _ _ hf) (And.intro rfl (And.intro rfl (And.intro rfl (And.intro rfl (And.intro rfl trivial)))))
            · have hf := zneg c154 hf
              refine z_iload_n C d_V_sift_162 rfl (z_pc (pc' := 163) rfl ?_)
              refine z_if_ne (tgt := 191) C d_V_sift_163 (by decide) (fun c164 => ?_) (fun c164 => z_pc (pc' := 166) rfl ?_)
              · have hf := zneg c164 hf
                refine z_iload_n C d_V_sift_191 rfl (z_pc (pc' := 192) rfl ?_)
                refine z_aload_n C d_V_sift_192 rfl (z_pc (pc' := 193) rfl ?_)
                obtain ⟨x165, h166, hf⟩ := zbind hf
                refine z_getr C fl_V_71 rfl h166 d_V_sift_193 (z_pc (pc' := 196) rfl ?_)
                refine z_iload C d_V_sift_196 rfl (z_pc (pc' := 198) rfl ?_)
                obtain ⟨x167, h168, hf⟩ := zbind hf
                refine z_bald C h168 d_V_sift_198 (z_pc (pc' := 199) rfl ?_)
                refine z_ior C d_V_sift_199 (z_pc (pc' := 200) rfl ?_)
                refine z_istore_n C d_V_sift_200 (by decide) (z_pl (pc' := 201) (L' := [some (zv n0 a0), some (zi a1), some (zi v2), some (zi (zor v3 x167)), some (zi v4)]) rfl rfl ?_)
                refine z_iload_n C d_V_sift_201 rfl (z_pc (pc' := 202) rfl ?_)
                refine z_aload_n C d_V_sift_202 rfl (z_pc (pc' := 203) rfl ?_)
                obtain ⟨x169, h170, hf⟩ := zbind hf
                refine z_getr C fl_V_71 rfl h170 d_V_sift_203 (z_pc (pc' := 206) rfl ?_)
                refine z_iload C d_V_sift_206 rfl (z_pc (pc' := 208) rfl ?_)
                obtain ⟨x171, h172, hf⟩ := zbind hf
                refine z_bald C h172 d_V_sift_208 (z_pc (pc' := 209) rfl ?_)
                refine z_if_eq (tgt := 216) C d_V_sift_209 (by decide) (fun c173 => ?_) (fun c173 => z_pc (pc' := 212) rfl ?_)
                · have hf := zpos c173 hf
                  refine z_iconst C d_V_sift_216 (z_pc (pc' := 217) rfl ?_)
                  refine z_iadd C d_V_sift_217 (z_pc (pc' := 218) rfl ?_)
                  refine z_istore_n C d_V_sift_218 (by decide) (z_pl (pc' := 219) (L' := [some (zv n0 a0), some (zi a1), some (zi (zadd v2 1)), some (zi (zor v3 x167)), some (zi v4)]) rfl rfl ?_)
                  refine z_iinc C d_V_sift_219 rfl (by decide) (z_pl (pc' := 222) (L' := [some (zv n0 a0), some (zi a1), some (zi (zadd v2 1)), some (zi (zor v3 x167)), some (zi (zadd v4 (-1)))]) rfl rfl ?_)
                  refine z_goto (tgt := 105) C d_V_sift_222 (by decide) ?_
                  exact z_sub2 (ih _ _ _ _ hf) (And.intro rfl (And.intro rfl (And.intro rfl (And.intro rfl (And.intro rfl trivial)))))
                · have hf := zneg c173 hf
                  refine z_iconst C d_V_sift_212 (z_pc (pc' := 213) rfl ?_)
                  refine z_goto (tgt := 217) C d_V_sift_213 (by decide) ?_
                  refine z_iadd C d_V_sift_217 (z_pc (pc' := 218) rfl ?_)
                  refine z_istore_n C d_V_sift_218 (by decide) (z_pl (pc' := 219) (L' := [some (zv n0 a0), some (zi a1), some (zi (zadd v2 0)), some (zi (zor v3 x167)), some (zi v4)]) rfl rfl ?_)
                  refine z_iinc C d_V_sift_219 rfl (by decide) (z_pl (pc' := 222) (L' := [some (zv n0 a0), some (zi a1), some (zi (zadd v2 0)), some (zi (zor v3 x167)), some (zi (zadd v4 (-1)))]) rfl rfl ?_)
                  refine z_goto (tgt := 105) C d_V_sift_222 (by decide) ?_
                  exact z_sub2 (ih _ _ _ _ hf) (And.intro rfl (And.intro rfl (And.intro rfl (And.intro rfl (And.intro rfl trivial)))))
              · have hf := zpos c164 hf
                refine z_aload_n C d_V_sift_166 rfl (z_pc (pc' := 167) rfl ?_)
                obtain ⟨x174, h175, hf⟩ := zbind hf
                refine z_getr C fl_V_67 rfl h175 d_V_sift_167 (z_pc (pc' := 170) rfl ?_)
                refine z_iload C d_V_sift_170 rfl (z_pc (pc' := 172) rfl ?_)
                obtain ⟨x176, h177, hf⟩ := zbind hf
                refine z_aald C (by decide) h177 d_V_sift_172 (z_pc (pc' := 173) rfl ?_)
                refine z_aload_n C d_V_sift_173 rfl (z_pc (pc' := 174) rfl ?_)
                obtain ⟨x178, h179, hf⟩ := zbind hf
                refine z_geti C fl_V_138 h179 d_V_sift_174 (z_pc (pc' := 177) rfl ?_)
                obtain ⟨x182, M181, h180, hf⟩ := zb2_inv hf
                refine z_callV C [zi x178] [] kv_V_197 (c_E_gone D n0 l h180) (e_E_gone h180) ⟨(Nat.le_of_ble_eq_true rfl), (Nat.le_of_ble_eq_true rfl)⟩ (Nat.le_of_ble_eq_true rfl) ⟨(Nat.le_of_ble_eq_true rfl), (Nat.le_of_ble_eq_true rfl)⟩ d_V_sift_177 (z_pc (pc' := 180) rfl ?_)
                refine z_if_eq (tgt := 191) C d_V_sift_180 (by decide) (fun c183 => ?_) (fun c183 => z_pc (pc' := 183) rfl ?_)
                · have hf := zpos c183 hf
                  refine z_iload_n C d_V_sift_191 rfl (z_pc (pc' := 192) rfl ?_)
                  refine z_aload_n C d_V_sift_192 rfl (z_pc (pc' := 193) rfl ?_)
                  obtain ⟨x184, h185, hf⟩ := zbind hf
                  refine z_getr C fl_V_71 rfl h185 d_V_sift_193 (z_pc (pc' := 196) rfl ?_)
                  refine z_iload C d_V_sift_196 rfl (z_pc (pc' := 198) rfl ?_)
                  obtain ⟨x186, h187, hf⟩ := zbind hf
                  refine z_bald C h187 d_V_sift_198 (z_pc (pc' := 199) rfl ?_)
                  refine z_ior C d_V_sift_199 (z_pc (pc' := 200) rfl ?_)
                  refine z_istore_n C d_V_sift_200 (by decide) (z_pl (pc' := 201) (L' := [some (zv n0 a0), some (zi a1), some (zi v2), some (zi (zor v3 x186)), some (zi v4)]) rfl rfl ?_)
                  refine z_iload_n C d_V_sift_201 rfl (z_pc (pc' := 202) rfl ?_)
                  refine z_aload_n C d_V_sift_202 rfl (z_pc (pc' := 203) rfl ?_)
                  obtain ⟨x188, h189, hf⟩ := zbind hf
                  refine z_getr C fl_V_71 rfl h189 d_V_sift_203 (z_pc (pc' := 206) rfl ?_)
                  refine z_iload C d_V_sift_206 rfl (z_pc (pc' := 208) rfl ?_)
                  obtain ⟨x190, h191, hf⟩ := zbind hf
                  refine z_bald C h191 d_V_sift_208 (z_pc (pc' := 209) rfl ?_)
                  refine z_if_eq (tgt := 216) C d_V_sift_209 (by decide) (fun c192 => ?_) (fun c192 => z_pc (pc' := 212) rfl ?_)
                  · have hf := zpos c192 hf
                    refine z_iconst C d_V_sift_216 (z_pc (pc' := 217) rfl ?_)
                    refine z_iadd C d_V_sift_217 (z_pc (pc' := 218) rfl ?_)
                    refine z_istore_n C d_V_sift_218 (by decide) (z_pl (pc' := 219) (L' := [some (zv n0 a0), some (zi a1), some (zi (zadd v2 1)), some (zi (zor v3 x186)), some (zi v4)]) rfl rfl ?_)
                    refine z_iinc C d_V_sift_219 rfl (by decide) (z_pl (pc' := 222) (L' := [some (zv n0 a0), some (zi a1), some (zi (zadd v2 1)), some (zi (zor v3 x186)), some (zi (zadd v4 (-1)))]) rfl rfl ?_)
                    refine z_goto (tgt := 105) C d_V_sift_222 (by decide) ?_
                    exact z_sub2 (ih _ _ _ _ hf) (And.intro rfl (And.intro rfl (And.intro rfl (And.intro rfl (And.intro rfl trivial)))))
                  · have hf := zneg c192 hf
                    refine z_iconst C d_V_sift_212 (z_pc (pc' := 213) rfl ?_)
                    refine z_goto (tgt := 217) C d_V_sift_213 (by decide) ?_
                    refine z_iadd C d_V_sift_217 (z_pc (pc' := 218) rfl ?_)
                    refine z_istore_n C d_V_sift_218 (by decide) (z_pl (pc' := 219) (L' := [some (zv n0 a0), some (zi a1), some (zi (zadd v2 0)), some (zi (zor v3 x186)), some (zi v4)]) rfl rfl ?_)
                    refine z_iinc C d_V_sift_219 rfl (by decide) (z_pl (pc' := 222) (L' := [some (zv n0 a0), some (zi a1), some (zi (zadd v2 0)), some (zi (zor v3 x186)), some (zi (zadd v4 (-1)))]) rfl rfl ?_)
                    refine z_goto (tgt := 105) C d_V_sift_222 (by decide) ?_
                    exact z_sub2 (ih _ _ _ _ hf) (And.intro rfl (And.intro rfl (And.intro rfl (And.intro rfl (And.intro rfl trivial)))))
                · have hf := zneg c183 hf
                  refine z_aload_n C d_V_sift_183 rfl (z_pc (pc' := 184) rfl ?_)
                  obtain ⟨x193, h194, hf⟩ := zbind hf
                  refine z_getr C fl_V_71 rfl h194 d_V_sift_184 (z_pc (pc' := 187) rfl ?_)
                  refine z_iload C d_V_sift_187 rfl (z_pc (pc' := 189) rfl ?_)
                  refine z_iconst C d_V_sift_189 (z_pc (pc' := 190) rfl ?_)
                  obtain ⟨M195, h196, hf⟩ := zbind hf
                  refine z_bast C h196 d_V_sift_190 (z_pc (pc' := 191) rfl ?_)
                  refine z_iload_n C d_V_sift_191 rfl (z_pc (pc' := 192) rfl ?_)
                  refine z_aload_n C d_V_sift_192 rfl (z_pc (pc' := 193) rfl ?_)
                  obtain ⟨x197, h198, hf⟩ := zbind hf
                  refine z_getr C fl_V_71 rfl h198 d_V_sift_193 (z_pc (pc' := 196) rfl ?_)
                  refine z_iload C d_V_sift_196 rfl (z_pc (pc' := 198) rfl ?_)
                  obtain ⟨x199, h200, hf⟩ := zbind hf
                  refine z_bald C h200 d_V_sift_198 (z_pc (pc' := 199) rfl ?_)
                  refine z_ior C d_V_sift_199 (z_pc (pc' := 200) rfl ?_)
                  refine z_istore_n C d_V_sift_200 (by decide) (z_pl (pc' := 201) (L' := [some (zv n0 a0), some (zi a1), some (zi v2), some (zi (zor v3 x199)), some (zi v4)]) rfl rfl ?_)
                  refine z_iload_n C d_V_sift_201 rfl (z_pc (pc' := 202) rfl ?_)
                  refine z_aload_n C d_V_sift_202 rfl (z_pc (pc' := 203) rfl ?_)
                  obtain ⟨x201, h202, hf⟩ := zbind hf
                  refine z_getr C fl_V_71 rfl h202 d_V_sift_203 (z_pc (pc' := 206) rfl ?_)
                  refine z_iload C d_V_sift_206 rfl (z_pc (pc' := 208) rfl ?_)
                  obtain ⟨x203, h204, hf⟩ := zbind hf
                  refine z_bald C h204 d_V_sift_208 (z_pc (pc' := 209) rfl ?_)
                  refine z_if_eq (tgt := 216) C d_V_sift_209 (by decide) (fun c205 => ?_) (fun c205 => z_pc (pc' := 212) rfl ?_)
                  · have hf := zpos c205 hf
                    refine z_iconst C d_V_sift_216 (z_pc (pc' := 217) rfl ?_)
                    refine z_iadd C d_V_sift_217 (z_pc (pc' := 218) rfl ?_)
                    refine z_istore_n C d_V_sift_218 (by decide) (z_pl (pc' := 219) (L' := [some (zv n0 a0), some (zi a1), some (zi (zadd v2 1)), some (zi (zor v3 x199)), some (zi v4)]) rfl rfl ?_)
                    refine z_iinc C d_V_sift_219 rfl (by decide) (z_pl (pc' := 222) (L' := [some (zv n0 a0), some (zi a1), some (zi (zadd v2 1)), some (zi (zor v3 x199)), some (zi (zadd v4 (-1)))]) rfl rfl ?_)
                    refine z_goto (tgt := 105) C d_V_sift_222 (by decide) ?_
                    exact z_sub2 (ih _ _ _ _ hf) (And.intro rfl (And.intro rfl (And.intro rfl (And.intro rfl (And.intro rfl trivial)))))
                  · have hf := zneg c205 hf
                    refine z_iconst C d_V_sift_212 (z_pc (pc' := 213) rfl ?_)
                    refine z_goto (tgt := 217) C d_V_sift_213 (by decide) ?_
                    refine z_iadd C d_V_sift_217 (z_pc (pc' := 218) rfl ?_)
                    refine z_istore_n C d_V_sift_218 (by decide) (z_pl (pc' := 219) (L' := [some (zv n0 a0), some (zi a1), some (zi (zadd v2 0)), some (zi (zor v3 x199)), some (zi v4)]) rfl rfl ?_)
                    refine z_iinc C d_V_sift_219 rfl (by decide) (z_pl (pc' := 222) (L' := [some (zv n0 a0), some (zi a1), some (zi (zadd v2 0)), some (zi (zor v3 x199)), some (zi (zadd v4 (-1)))]) rfl rfl ?_)
                    refine z_goto (tgt := 105) C d_V_sift_222 (by decide) ?_
                    exact z_sub2 (ih _ _ _ _ hf) (And.intro rfl (And.intro rfl (And.intro rfl (And.intro rfl (And.intro rfl trivial)))))
        · have hf := zneg c139 hf
          refine z_iconst C d_V_sift_146 (z_pc (pc' := 147) rfl ?_)
          refine z_istore_n C d_V_sift_147 (by decide) (z_pl (pc' := 148) (L' := [some (zv n0 a0), some (zi a1), some (zi v2), some (zi 0), some (zi v4)]) rfl rfl ?_)
          refine z_iload_n C d_V_sift_148 rfl (z_pc (pc' := 149) rfl ?_)
          refine z_if_eq (tgt := 191) C d_V_sift_149 (by decide) (fun c206 => ?_) (fun c206 => z_pc (pc' := 152) rfl ?_)
          · have hf := zpos c206 hf
            refine z_iload_n C d_V_sift_191 rfl (z_pc (pc' := 192) rfl ?_)
            refine z_aload_n C d_V_sift_192 rfl (z_pc (pc' := 193) rfl ?_)
            obtain ⟨x207, h208, hf⟩ := zbind hf
            refine z_getr C fl_V_71 rfl h208 d_V_sift_193 (z_pc (pc' := 196) rfl ?_)
            refine z_iload C d_V_sift_196 rfl (z_pc (pc' := 198) rfl ?_)
            obtain ⟨x209, h210, hf⟩ := zbind hf
            refine z_bald C h210 d_V_sift_198 (z_pc (pc' := 199) rfl ?_)
            refine z_ior C d_V_sift_199 (z_pc (pc' := 200) rfl ?_)
            refine z_istore_n C d_V_sift_200 (by decide) (z_pl (pc' := 201) (L' := [some (zv n0 a0), some (zi a1), some (zi v2), some (zi (zor 0 x209)), some (zi v4)]) rfl rfl ?_)
            refine z_iload_n C d_V_sift_201 rfl (z_pc (pc' := 202) rfl ?_)
            refine z_aload_n C d_V_sift_202 rfl (z_pc (pc' := 203) rfl ?_)
            obtain ⟨x211, h212, hf⟩ := zbind hf
            refine z_getr C fl_V_71 rfl h212 d_V_sift_203 (z_pc (pc' := 206) rfl ?_)
            refine z_iload C d_V_sift_206 rfl (z_pc (pc' := 208) rfl ?_)
            obtain ⟨x213, h214, hf⟩ := zbind hf
            refine z_bald C h214 d_V_sift_208 (z_pc (pc' := 209) rfl ?_)
            refine z_if_eq (tgt := 216) C d_V_sift_209 (by decide) (fun c215 => ?_) (fun c215 => z_pc (pc' := 212) rfl ?_)
            · have hf := zpos c215 hf
              refine z_iconst C d_V_sift_216 (z_pc (pc' := 217) rfl ?_)
              refine z_iadd C d_V_sift_217 (z_pc (pc' := 218) rfl ?_)
              refine z_istore_n C d_V_sift_218 (by decide) (z_pl (pc' := 219) (L' := [some (zv n0 a0), some (zi a1), some (zi (zadd v2 1)), some (zi (zor 0 x209)), some (zi v4)]) rfl rfl ?_)
              refine z_iinc C d_V_sift_219 rfl (by decide) (z_pl (pc' := 222) (L' := [some (zv n0 a0), some (zi a1), some (zi (zadd v2 1)), some (zi (zor 0 x209)), some (zi (zadd v4 (-1)))]) rfl rfl ?_)
              refine z_goto (tgt := 105) C d_V_sift_222 (by decide) ?_
              exact z_sub2 (ih _ _ _ _ hf) (And.intro rfl (And.intro rfl (And.intro rfl (And.intro rfl (And.intro rfl trivial)))))
            · have hf := zneg c215 hf
              refine z_iconst C d_V_sift_212 (z_pc (pc' := 213) rfl ?_)
              refine z_goto (tgt := 217) C d_V_sift_213 (by decide) ?_
              refine z_iadd C d_V_sift_217 (z_pc (pc' := 218) rfl ?_)
              refine z_istore_n C d_V_sift_218 (by decide) (z_pl (pc' := 219) (L' := [some (zv n0 a0), some (zi a1), some (zi (zadd v2 0)), some (zi (zor 0 x209)), some (zi v4)]) rfl rfl ?_)
              refine z_iinc C d_V_sift_219 rfl (by decide) (z_pl (pc' := 222) (L' := [some (zv n0 a0), some (zi a1), some (zi (zadd v2 0)), some (zi (zor 0 x209)), some (zi (zadd v4 (-1)))]) rfl rfl ?_)
              refine z_goto (tgt := 105) C d_V_sift_222 (by decide) ?_
              exact z_sub2 (ih _ _ _ _ hf) (And.intro rfl (And.intro rfl (And.intro rfl (And.intro rfl (And.intro rfl trivial)))))
          · have hf := zneg c206 hf
            refine z_aload_n C d_V_sift_152 rfl (z_pc (pc' := 153) rfl ?_)
            obtain ⟨x216, h217, hf⟩ := zbind hf
            refine z_getr C fl_V_71 rfl h217 d_V_sift_153 (z_pc (pc' := 156) rfl ?_)
            refine z_iload C d_V_sift_156 rfl (z_pc (pc' := 158) rfl ?_)
            obtain ⟨x218, h219, hf⟩ := zbind hf
            refine z_bald C h219 d_V_sift_158 (z_pc (pc' := 159) rfl ?_)
            refine z_if_eq (tgt := 191) C d_V_sift_159 (by decide) (fun c220 => ?_) (fun c220 => z_pc (pc' := 162) rfl ?_)
            · have hf := zpos c220 hf
              refine z_iload_n C d_V_sift_191 rfl (z_pc (pc' := 192) rfl ?_)
              refine z_aload_n C d_V_sift_192 rfl (z_pc (pc' := 193) rfl ?_)
              obtain ⟨x221, h222, hf⟩ := zbind hf
              refine z_getr C fl_V_71 rfl h222 d_V_sift_193 (z_pc (pc' := 196) rfl ?_)
              refine z_iload C d_V_sift_196 rfl (z_pc (pc' := 198) rfl ?_)
              obtain ⟨x223, h224, hf⟩ := zbind hf
              refine z_bald C h224 d_V_sift_198 (z_pc (pc' := 199) rfl ?_)
              refine z_ior C d_V_sift_199 (z_pc (pc' := 200) rfl ?_)
              refine z_istore_n C d_V_sift_200 (by decide) (z_pl (pc' := 201) (L' := [some (zv n0 a0), some (zi a1), some (zi v2), some (zi (zor 0 x223)), some (zi v4)]) rfl rfl ?_)
              refine z_iload_n C d_V_sift_201 rfl (z_pc (pc' := 202) rfl ?_)
              refine z_aload_n C d_V_sift_202 rfl (z_pc (pc' := 203) rfl ?_)
              obtain ⟨x225, h226, hf⟩ := zbind hf
              refine z_getr C fl_V_71 rfl h226 d_V_sift_203 (z_pc (pc' := 206) rfl ?_)
              refine z_iload C d_V_sift_206 rfl (z_pc (pc' := 208) rfl ?_)
              obtain ⟨x227, h228, hf⟩ := zbind hf
              refine z_bald C h228 d_V_sift_208 (z_pc (pc' := 209) rfl ?_)
              refine z_if_eq (tgt := 216) C d_V_sift_209 (by decide) (fun c229 => ?_) (fun c229 => z_pc (pc' := 212) rfl ?_)
              · have hf := zpos c229 hf
                refine z_iconst C d_V_sift_216 (z_pc (pc' := 217) rfl ?_)
                refine z_iadd C d_V_sift_217 (z_pc (pc' := 218) rfl ?_)
                refine z_istore_n C d_V_sift_218 (by decide) (z_pl (pc' := 219) (L' := [some (zv n0 a0), some (zi a1), some (zi (zadd v2 1)), some (zi (zor 0 x223)), some (zi v4)]) rfl rfl ?_)
                refine z_iinc C d_V_sift_219 rfl (by decide) (z_pl (pc' := 222) (L' := [some (zv n0 a0), some (zi a1), some (zi (zadd v2 1)), some (zi (zor 0 x223)), some (zi (zadd v4 (-1)))]) rfl rfl ?_)
                refine z_goto (tgt := 105) C d_V_sift_222 (by decide) ?_
                exact z_sub2 (ih _ _ _ _ hf) (And.intro rfl (And.intro rfl (And.intro rfl (And.intro rfl (And.intro rfl trivial)))))
              · have hf := zneg c229 hf
                refine z_iconst C d_V_sift_212 (z_pc (pc' := 213) rfl ?_)
                refine z_goto (tgt := 217) C d_V_sift_213 (by decide) ?_
                refine z_iadd C d_V_sift_217 (z_pc (pc' := 218) rfl ?_)
                refine z_istore_n C d_V_sift_218 (by decide) (z_pl (pc' := 219) (L' := [some (zv n0 a0), some (zi a1), some (zi (zadd v2 0)), some (zi (zor 0 x223)), some (zi v4)]) rfl rfl ?_)
                refine z_iinc C d_V_sift_219 rfl (by decide) (z_pl (pc' := 222) (L' := [some (zv n0 a0), some (zi a1), some (zi (zadd v2 0)), some (zi (zor 0 x223)), some (zi (zadd v4 (-1)))]) rfl rfl ?_)
                refine z_goto (tgt := 105) C d_V_sift_222 (by decide) ?_
                exact z_sub2 (ih _ _ _ _ hf) (And.intro rfl (And.intro rfl (And.intro rfl (And.intro rfl (And.intro rfl trivial)))))
            · have hf := zneg c220 hf
              refine z_iload_n C d_V_sift_162 rfl (z_pc (pc' := 163) rfl ?_)
              refine z_if_ne (tgt := 191) C d_V_sift_163 (by decide) (fun c230 => absurd c230 (by decide)) (fun _ => z_pc (pc' := 166) rfl ?_)
              refine z_aload_n C d_V_sift_166 rfl (z_pc (pc' := 167) rfl ?_)
              obtain ⟨x231, h232, hf⟩ := zbind hf
              refine z_getr C fl_V_67 rfl h232 d_V_sift_167 (z_pc (pc' := 170) rfl ?_)
              refine z_iload C d_V_sift_170 rfl (z_pc (pc' := 172) rfl ?_)
              obtain ⟨x233, h234, hf⟩ := zbind hf
              refine z_aald C (by decide) h234 d_V_sift_172 (z_pc (pc' := 173) rfl ?_)
              refine z_aload_n C d_V_sift_173 rfl (z_pc (pc' := 174) rfl ?_)
              obtain ⟨x235, h236, hf⟩ := zbind hf
              refine z_geti C fl_V_138 h236 d_V_sift_174 (z_pc (pc' := 177) rfl ?_)
              obtain ⟨x239, M238, h237, hf⟩ := zb2_inv hf
              refine z_callV C [zi x235] [] kv_V_197 (c_E_gone D n0 l h237) (e_E_gone h237) ⟨(Nat.le_of_ble_eq_true rfl), (Nat.le_of_ble_eq_true rfl)⟩ (Nat.le_of_ble_eq_true rfl) ⟨(Nat.le_of_ble_eq_true rfl), (Nat.le_of_ble_eq_true rfl)⟩ d_V_sift_177 (z_pc (pc' := 180) rfl ?_)
              refine z_if_eq (tgt := 191) C d_V_sift_180 (by decide) (fun c240 => ?_) (fun c240 => z_pc (pc' := 183) rfl ?_)
              · have hf := zpos c240 hf
                refine z_iload_n C d_V_sift_191 rfl (z_pc (pc' := 192) rfl ?_)
                refine z_aload_n C d_V_sift_192 rfl (z_pc (pc' := 193) rfl ?_)
                obtain ⟨x241, h242, hf⟩ := zbind hf
                refine z_getr C fl_V_71 rfl h242 d_V_sift_193 (z_pc (pc' := 196) rfl ?_)
                refine z_iload C d_V_sift_196 rfl (z_pc (pc' := 198) rfl ?_)
                obtain ⟨x243, h244, hf⟩ := zbind hf
                refine z_bald C h244 d_V_sift_198 (z_pc (pc' := 199) rfl ?_)
                refine z_ior C d_V_sift_199 (z_pc (pc' := 200) rfl ?_)
                refine z_istore_n C d_V_sift_200 (by decide) (z_pl (pc' := 201) (L' := [some (zv n0 a0), some (zi a1), some (zi v2), some (zi (zor 0 x243)), some (zi v4)]) rfl rfl ?_)
                refine z_iload_n C d_V_sift_201 rfl (z_pc (pc' := 202) rfl ?_)
                refine z_aload_n C d_V_sift_202 rfl (z_pc (pc' := 203) rfl ?_)
                obtain ⟨x245, h246, hf⟩ := zbind hf
                refine z_getr C fl_V_71 rfl h246 d_V_sift_203 (z_pc (pc' := 206) rfl ?_)
                refine z_iload C d_V_sift_206 rfl (z_pc (pc' := 208) rfl ?_)
                obtain ⟨x247, h248, hf⟩ := zbind hf
                refine z_bald C h248 d_V_sift_208 (z_pc (pc' := 209) rfl ?_)
                refine z_if_eq (tgt := 216) C d_V_sift_209 (by decide) (fun c249 => ?_) (fun c249 => z_pc (pc' := 212) rfl ?_)
                · have hf := zpos c249 hf
                  refine z_iconst C d_V_sift_216 (z_pc (pc' := 217) rfl ?_)
                  refine z_iadd C d_V_sift_217 (z_pc (pc' := 218) rfl ?_)
                  refine z_istore_n C d_V_sift_218 (by decide) (z_pl (pc' := 219) (L' := [some (zv n0 a0), some (zi a1), some (zi (zadd v2 1)), some (zi (zor 0 x243)), some (zi v4)]) rfl rfl ?_)
                  refine z_iinc C d_V_sift_219 rfl (by decide) (z_pl (pc' := 222) (L' := [some (zv n0 a0), some (zi a1), some (zi (zadd v2 1)), some (zi (zor 0 x243)), some (zi (zadd v4 (-1)))]) rfl rfl ?_)
                  refine z_goto (tgt := 105) C d_V_sift_222 (by decide) ?_
                  exact z_sub2 (ih _ _ _ _ hf) (And.intro rfl (And.intro rfl (And.intro rfl (And.intro rfl (And.intro rfl trivial)))))
                · have hf := zneg c249 hf
                  refine z_iconst C d_V_sift_212 (z_pc (pc' := 213) rfl ?_)
                  refine z_goto (tgt := 217) C d_V_sift_213 (by decide) ?_
                  refine z_iadd C d_V_sift_217 (z_pc (pc' := 218) rfl ?_)
                  refine z_istore_n C d_V_sift_218 (by decide) (z_pl (pc' := 219) (L' := [some (zv n0 a0), some (zi a1), some (zi (zadd v2 0)), some (zi (zor 0 x243)), some (zi v4)]) rfl rfl ?_)
                  refine z_iinc C d_V_sift_219 rfl (by decide) (z_pl (pc' := 222) (L' := [some (zv n0 a0), some (zi a1), some (zi (zadd v2 0)), some (zi (zor 0 x243)), some (zi (zadd v4 (-1)))]) rfl rfl ?_)
                  refine z_goto (tgt := 105) C d_V_sift_222 (by decide) ?_
                  exact z_sub2 (ih _ _ _ _ hf) (And.intro rfl (And.intro rfl (And.intro rfl (And.intro rfl (And.intro rfl trivial)))))
              · have hf := zneg c240 hf
                refine z_aload_n C d_V_sift_183 rfl (z_pc (pc' := 184) rfl ?_)
                obtain ⟨x250, h251, hf⟩ := zbind hf
                refine z_getr C fl_V_71 rfl h251 d_V_sift_184 (z_pc (pc' := 187) rfl ?_)
                refine z_iload C d_V_sift_187 rfl (z_pc (pc' := 189) rfl ?_)
                refine z_iconst C d_V_sift_189 (z_pc (pc' := 190) rfl ?_)
                obtain ⟨M252, h253, hf⟩ := zbind hf
                refine z_bast C h253 d_V_sift_190 (z_pc (pc' := 191) rfl ?_)
                refine z_iload_n C d_V_sift_191 rfl (z_pc (pc' := 192) rfl ?_)
                refine z_aload_n C d_V_sift_192 rfl (z_pc (pc' := 193) rfl ?_)
                obtain ⟨x254, h255, hf⟩ := zbind hf
                refine z_getr C fl_V_71 rfl h255 d_V_sift_193 (z_pc (pc' := 196) rfl ?_)
                refine z_iload C d_V_sift_196 rfl (z_pc (pc' := 198) rfl ?_)
                obtain ⟨x256, h257, hf⟩ := zbind hf
                refine z_bald C h257 d_V_sift_198 (z_pc (pc' := 199) rfl ?_)
                refine z_ior C d_V_sift_199 (z_pc (pc' := 200) rfl ?_)
                refine z_istore_n C d_V_sift_200 (by decide) (z_pl (pc' := 201) (L' := [some (zv n0 a0), some (zi a1), some (zi v2), some (zi (zor 0 x256)), some (zi v4)]) rfl rfl ?_)
                refine z_iload_n C d_V_sift_201 rfl (z_pc (pc' := 202) rfl ?_)
                refine z_aload_n C d_V_sift_202 rfl (z_pc (pc' := 203) rfl ?_)
                obtain ⟨x258, h259, hf⟩ := zbind hf
                refine z_getr C fl_V_71 rfl h259 d_V_sift_203 (z_pc (pc' := 206) rfl ?_)
                refine z_iload C d_V_sift_206 rfl (z_pc (pc' := 208) rfl ?_)
                obtain ⟨x260, h261, hf⟩ := zbind hf
                refine z_bald C h261 d_V_sift_208 (z_pc (pc' := 209) rfl ?_)
                refine z_if_eq (tgt := 216) C d_V_sift_209 (by decide) (fun c262 => ?_) (fun c262 => z_pc (pc' := 212) rfl ?_)
                · have hf := zpos c262 hf
                  refine z_iconst C d_V_sift_216 (z_pc (pc' := 217) rfl ?_)
                  refine z_iadd C d_V_sift_217 (z_pc (pc' := 218) rfl ?_)
                  refine z_istore_n C d_V_sift_218 (by decide) (z_pl (pc' := 219) (L' := [some (zv n0 a0), some (zi a1), some (zi (zadd v2 1)), some (zi (zor 0 x256)), some (zi v4)]) rfl rfl ?_)
                  refine z_iinc C d_V_sift_219 rfl (by decide) (z_pl (pc' := 222) (L' := [some (zv n0 a0), some (zi a1), some (zi (zadd v2 1)), some (zi (zor 0 x256)), some (zi (zadd v4 (-1)))]) rfl rfl ?_)
                  refine z_goto (tgt := 105) C d_V_sift_222 (by decide) ?_
                  exact z_sub2 (ih _ _ _ _ hf) (And.intro rfl (And.intro rfl (And.intro rfl (And.intro rfl (And.intro rfl trivial)))))
                · have hf := zneg c262 hf
                  refine z_iconst C d_V_sift_212 (z_pc (pc' := 213) rfl ?_)
                  refine z_goto (tgt := 217) C d_V_sift_213 (by decide) ?_
                  refine z_iadd C d_V_sift_217 (z_pc (pc' := 218) rfl ?_)
                  refine z_istore_n C d_V_sift_218 (by decide) (z_pl (pc' := 219) (L' := [some (zv n0 a0), some (zi a1), some (zi (zadd v2 0)), some (zi (zor 0 x256)), some (zi v4)]) rfl rfl ?_)
                  refine z_iinc C d_V_sift_219 rfl (by decide) (z_pl (pc' := 222) (L' := [some (zv n0 a0), some (zi a1), some (zi (zadd v2 0)), some (zi (zor 0 x256)), some (zi (zadd v4 (-1)))]) rfl rfl ?_)
                  refine z_goto (tgt := 105) C d_V_sift_222 (by decide) ?_
                  exact z_sub2 (ih _ _ _ _ hf) (And.intro rfl (And.intro rfl (And.intro rfl (And.intro rfl (And.intro rfl trivial)))))
theorem e_V_sift {a0 : Nat} {a1 : Int} {M : zHp} {q : Int × zHp} (hf : f_V_sift a0 a1 M = some q) : zk M a0 = 0 := by
  unfold f_V_sift at hf
  exact (zif hf).1
set_option maxHeartbeats 4000000 in
set_option maxRecDepth 100000 in
theorem c_V_sift (D : va_G) (n0 : Nat) (l : Launch) {a0 : Nat} {a1 : Int} {M : zHp} {r : Int} {M' : zHp} (hf : f_V_sift a0 a1 M = some (r, M')) : zM D n0 l y_V_sift b_V_sift 5 (some .int) 1 27 0 0 [zv n0 a0, zi a1] M (some (zi r)) M' := by
  refine zM.ofZ (by decide) (zcr (zci zcn)) (Nat.le_of_ble_eq_true rfl) ?_
  intro p e s m below meth c C hr hnm
  have C : zC D n0 p s m meth c b_V_sift 5 "LayerVault" := C
  refine z_eqL (L' := [some (zv n0 a0), some (zi a1), none, none, none]) rfl ?_
  unfold f_V_sift at hf
  have hf := (zif hf).2
  refine z_iconst C d_V_sift_0 (z_pc (pc' := 1) rfl ?_)
  refine z_istore_n C d_V_sift_1 (by decide) (z_pl (pc' := 2) (L' := [some (zv n0 a0), some (zi a1), some (zi 0), none, none]) rfl rfl ?_)
  refine z_iconst C d_V_sift_2 (z_pc (pc' := 3) rfl ?_)
  refine z_istore_n C d_V_sift_3 (by decide) (z_pl (pc' := 4) (L' := [some (zv n0 a0), some (zi a1), some (zi 0), some (zi 0), none]) rfl rfl ?_)
  refine z_sub2 (w_V_sift_L4 C hr ?_ _ _ _ hf) (And.intro rfl (And.intro rfl (And.intro rfl (And.intro rfl trivial))))
  intro M54 hf
  refine z_iconst C d_V_sift_95 (z_pc (pc' := 96) rfl ?_)
  refine z_istore_n C d_V_sift_96 (by decide) (z_pl (pc' := 97) (L' := [some (zv n0 a0), some (zi a1), some (zi 0), some (zi 0), none]) rfl rfl ?_)
  refine z_aload_n C d_V_sift_97 rfl (z_pc (pc' := 98) rfl ?_)
  obtain ⟨x55, h56, hf⟩ := zbind hf
  refine z_geti C fl_V_181 h56 d_V_sift_98 (z_pc (pc' := 101) rfl ?_)
  refine z_iconst C d_V_sift_101 (z_pc (pc' := 102) rfl ?_)
  refine z_isub C d_V_sift_102 (z_pc (pc' := 103) rfl ?_)
  refine z_istore C d_V_sift_103 (by decide) (z_pl (pc' := 105) (L' := [some (zv n0 a0), some (zi a1), some (zi 0), some (zi 0), some (zi (zsub x55 1))]) rfl rfl ?_)
  refine z_sub2 (w_V_sift_L105 C hr ?_ _ _ _ _ _ hf) (And.intro rfl (And.intro rfl (And.intro rfl (And.intro rfl (And.intro rfl trivial)))))
  intro v263 M264 hf
  refine z_iload_n C d_V_sift_225 rfl (z_pc (pc' := 226) rfl ?_)
  exact z_iret C hr (Nat.le_of_ble_eq_true rfl) (Nat.le_of_ble_eq_true rfl) d_V_sift_226 hf
set_option maxHeartbeats 4000000 in
set_option maxRecDepth 100000 in
theorem w_V_clear_L2 {D : va_G} {n0 : Nat} {l : Launch} {p : Program} {e : Env} {s : State} {m : MethodId} {args : Array Value} {below : List Frame} {meth : Method} {c : Code} {a0 : Nat} {a1 : Nat} {M' : zHp} {κ : zHp → Option (zHp)} (C : zC D n0 p s m meth c b_V_clear 3 "LayerVault") (hr : meth.sig.returnType = none)
    (hκ : ∀ (M1 : zHp), κ M1 = some M' → zZ D n0 p l e { frames := 0, cells := 0, slots := 0, locals := 0 } s m args below meth c 3 0 0 (MQ below (zQc D n0 none M') args s 0 0 (fun q => n0 ≤ q)) 39 [none, some (zv n0 a1), none] [] M1) :
    ∀ (n : Nat) (v2 : Int) (M : zHp), f_V_clear_L2 κ a0 a1 n v2 M = some M' → zZ D n0 p l e { frames := 0, cells := 0, slots := 0, locals := 0 } s m args below meth c 3 0 0 (MQ below (zQc D n0 none M') args s 0 0 (fun q => n0 ≤ q)) 2 [some (zv n0 a0), some (zv n0 a1), some (zi v2)] [] M := by
  intro n
  induction n with
  | zero =>
    intro v2 M hf
    exact absurd hf (by unfold f_V_clear_L2; simp)
  | succ n ih =>
    intro v2 M hf
    unfold f_V_clear_L2 at hf
    refine z_iload_n C d_V_clear_2 rfl (z_pc (pc' := 3) rfl ?_)
    refine z_aload_n C d_V_clear_3 rfl (z_pc (pc' := 4) rfl ?_)
    obtain ⟨x1, h2, hf⟩ := zbind hf
    refine z_geti C fl_V_213 h2 d_V_clear_4 (z_pc (pc' := 7) rfl ?_)
    refine z_icmp_ge (tgt := 39) C d_V_clear_7 (by decide) (fun c3 => ?_) (fun c3 => z_pc (pc' := 10) rfl ?_)
    · have hf := zpos c3 hf
      exact z_sub2 (hκ _ hf) (And.intro rfl trivial)
    · have hf := zneg c3 hf
      refine z_aload_n C d_V_clear_10 rfl (z_pc (pc' := 11) rfl ?_)
      obtain ⟨x4, h5, hf⟩ := zbind hf
      refine z_getr C fl_V_214 rfl h5 d_V_clear_11 (z_pc (pc' := 14) rfl ?_)
      refine z_iload_n C d_V_clear_14 rfl (z_pc (pc' := 15) rfl ?_)
      obtain ⟨x6, h7, hf⟩ := zbind hf
      refine z_aald C (by decide) h7 d_V_clear_15 (z_pc (pc' := 16) rfl ?_)
      refine z_aload_n C d_V_clear_16 rfl (z_pc (pc' := 17) rfl ?_)
      obtain ⟨x8, h9, hf⟩ := zbind hf
      refine z_getr C fl_V_200 rfl h9 d_V_clear_17 (z_pc (pc' := 20) rfl ?_)
      obtain ⟨M10, h11, hf⟩ := zbind hf
      refine z_putr C fp_V_207 rfl (by decide) rfl h11 d_V_clear_20 (z_pc (pc' := 23) rfl ?_)
      refine z_aload_n C d_V_clear_23 rfl (z_pc (pc' := 24) rfl ?_)
      refine z_aload_n C d_V_clear_24 rfl (z_pc (pc' := 25) rfl ?_)
      obtain ⟨x12, h13, hf⟩ := zbind hf
      refine z_getr C fl_V_214 rfl h13 d_V_clear_25 (z_pc (pc' := 28) rfl ?_)
      refine z_iload_n C d_V_clear_28 rfl (z_pc (pc' := 29) rfl ?_)
      obtain ⟨x14, h15, hf⟩ := zbind hf
      refine z_aald C (by decide) h15 d_V_clear_29 (z_pc (pc' := 30) rfl ?_)
      obtain ⟨M16, h17, hf⟩ := zbind hf
      refine z_putr C fp_V_200 rfl (by decide) rfl h17 d_V_clear_30 (z_pc (pc' := 33) rfl ?_)
      refine z_iinc C d_V_clear_33 rfl (by decide) (z_pl (pc' := 36) (L' := [some (zv n0 a0), some (zv n0 a1), some (zi (zadd v2 1))]) rfl rfl ?_)
      refine z_goto (tgt := 2) C d_V_clear_36 (by decide) ?_
      exact z_sub2 (ih _ _ hf) (And.intro rfl (And.intro rfl (And.intro rfl trivial)))
theorem e_V_clear {a0 : Nat} {a1 : Nat} {M : zHp} {q : zHp} (hf : f_V_clear a0 a1 M = some q) : zk M a0 = 0 := by
  unfold f_V_clear at hf
  exact (zif hf).1
set_option maxHeartbeats 4000000 in
set_option maxRecDepth 100000 in
theorem c_V_clear (D : va_G) (n0 : Nat) (l : Launch) {a0 : Nat} {a1 : Nat} {M : zHp} {M' : zHp} (hf : f_V_clear a0 a1 M = some M') : zM D n0 l y_V_clear b_V_clear 3 none 0 0 0 0 [zv n0 a0, zv n0 a1] M none M' := by
  refine zM.ofZ (by decide) (zcr (zcr zcn)) (Nat.le_of_ble_eq_true rfl) ?_
  intro p e s m below meth c C hr hnm
  have C : zC D n0 p s m meth c b_V_clear 3 "LayerVault" := C
  refine z_eqL (L' := [some (zv n0 a0), some (zv n0 a1), none]) rfl ?_
  unfold f_V_clear at hf
  have hf := (zif hf).2
  refine z_iconst C d_V_clear_0 (z_pc (pc' := 1) rfl ?_)
  refine z_istore_n C d_V_clear_1 (by decide) (z_pl (pc' := 2) (L' := [some (zv n0 a0), some (zv n0 a1), some (zi 0)]) rfl rfl ?_)
  refine z_sub2 (w_V_clear_L2 C hr ?_ _ _ _ hf) (And.intro rfl (And.intro rfl (And.intro rfl trivial)))
  intro M18 hf
  refine z_aload_n C d_V_clear_39 rfl (z_pc (pc' := 40) rfl ?_)
  refine z_iconst C d_V_clear_40 (z_pc (pc' := 41) rfl ?_)
  obtain ⟨M19, h20, hf⟩ := zbind hf
  refine z_puti C fp_V_213 (by decide) rfl h20 d_V_clear_41 (z_pc (pc' := 44) rfl ?_)
  exact z_vret C hr (Nat.le_of_ble_eq_true rfl) (Nat.le_of_ble_eq_true rfl) d_V_clear_44 hf
theorem e_V_drop {a0 : Nat} {a1 : Nat} {M : zHp} {q : zHp} (hf : f_V_drop a0 a1 M = some q) : zk M a0 = 0 := by
  unfold f_V_drop at hf
  exact (zif hf).1
set_option maxHeartbeats 4000000 in
set_option maxRecDepth 100000 in
theorem c_V_drop (D : va_G) (n0 : Nat) (l : Launch) {a0 : Nat} {a1 : Nat} {M : zHp} {M' : zHp} (hf : f_V_drop a0 a1 M = some M') : zM D n0 l y_V_drop b_V_drop 2 none 1 20 0 0 [zv n0 a0, zv n0 a1] M none M' := by
  refine zM.ofZ (by decide) (zcr (zcr zcn)) (Nat.le_of_ble_eq_true rfl) ?_
  intro p e s m below meth c C hr hnm
  have C : zC D n0 p s m meth c b_V_drop 2 "LayerVault" := C
  refine z_eqL (L' := [some (zv n0 a0), some (zv n0 a1)]) rfl ?_
  unfold f_V_drop at hf
  have hf := (zif hf).2
  refine z_aload_n C d_V_drop_0 rfl (z_pc (pc' := 1) rfl ?_)
  obtain ⟨M2, h1, hf⟩ := zbind hf
  refine z_callV C [] [] kv_V_178 (c_E_leave D n0 l h1) (e_E_leave h1) ⟨(Nat.le_of_ble_eq_true rfl), (Nat.le_of_ble_eq_true rfl)⟩ (Nat.le_of_ble_eq_true rfl) ⟨(Nat.le_of_ble_eq_true rfl), (Nat.le_of_ble_eq_true rfl)⟩ d_V_drop_1 (z_pc (pc' := 4) rfl ?_)
  refine z_aload_n C d_V_drop_4 rfl (z_pc (pc' := 5) rfl ?_)
  obtain ⟨x3, h4, hf⟩ := zbind hf
  refine z_getr C fl_V_150 rfl h4 d_V_drop_5 (z_pc (pc' := 8) rfl ?_)
  refine z_iconst C d_V_drop_8 (z_pc (pc' := 9) rfl ?_)
  refine z_aload_n C d_V_drop_9 rfl (z_pc (pc' := 10) rfl ?_)
  obtain ⟨x5, h6, hf⟩ := zbind hf
  refine z_getr C fl_V_145 rfl h6 d_V_drop_10 (z_pc (pc' := 13) rfl ?_)
  obtain ⟨M7, h8, hf⟩ := zbind hf
  refine z_aast C (by decide) h8 d_V_drop_13 (z_pc (pc' := 14) rfl ?_)
  refine z_aload_n C d_V_drop_14 rfl (z_pc (pc' := 15) rfl ?_)
  refine z_aload_n C d_V_drop_15 rfl (z_pc (pc' := 16) rfl ?_)
  obtain ⟨M9, h10, hf⟩ := zbind hf
  refine z_putr C fp_V_145 rfl (by decide) rfl h10 d_V_drop_16 (z_pc (pc' := 19) rfl ?_)
  exact z_vret C hr (Nat.le_of_ble_eq_true rfl) (Nat.le_of_ble_eq_true rfl) d_V_drop_19 hf
theorem e_V_newTable {a0 : Nat} {M : zHp} {q : Nat × zHp} (hf : f_V_newTable a0 M = some q) : zk M a0 = 0 := by
  unfold f_V_newTable at hf
  exact (zif hf).1
set_option maxHeartbeats 4000000 in
set_option maxRecDepth 100000 in
theorem c_V_newTable (D : va_G) (n0 : Nat) (l : Launch) {a0 : Nat} {M : zHp} {r : Nat} {M' : zHp} (hf : f_V_newTable a0 M = some (r, M')) : zM D n0 l y_V_newTable b_V_newTable 2 (some (.object "LayerVault$Table")) 2 40 2 12 [zv n0 a0] M (some (zv n0 r)) M' := by
  refine zM.ofZ (by decide) (zcr zcn) (Nat.le_of_ble_eq_true rfl) ?_
  intro p e s m below meth c C hr hnm
  have C : zC D n0 p s m meth c b_V_newTable 2 "LayerVault" := C
  refine z_eqL (L' := [some (zv n0 a0), none]) rfl ?_
  unfold f_V_newTable at hf
  have hf := (zif hf).2
  refine z_aload_n C d_V_newTable_0 rfl (z_pc (pc' := 1) rfl ?_)
  obtain ⟨x1, h2, hf⟩ := zbind hf
  refine z_getr C fl_V_200 rfl h2 d_V_newTable_1 (z_pc (pc' := 4) rfl ?_)
  refine z_astore_n C d_V_newTable_4 (by decide) (z_pl (pc' := 5) (L' := [some (zv n0 a0), some (zv n0 x1)]) rfl rfl ?_)
  refine z_aload_n C d_V_newTable_5 rfl (z_pc (pc' := 6) rfl ?_)
  refine z_ifnonnull (tgt := 20) C d_V_newTable_6 (by decide) (fun c3 => ?_) (fun c3 => (z_pc (pc' := 9) rfl ?_))
  · have hf := zneg c3 hf
    refine z_aload_n C d_V_newTable_20 rfl (z_pc (pc' := 21) rfl ?_)
    refine z_aload_n C d_V_newTable_21 rfl (z_pc (pc' := 22) rfl ?_)
    obtain ⟨x4, h5, hf⟩ := zbind hf
    refine z_getr C fl_V_207 rfl h5 d_V_newTable_22 (z_pc (pc' := 25) rfl ?_)
    obtain ⟨M6, h7, hf⟩ := zbind hf
    refine z_putr C fp_V_200 rfl (by decide) rfl h7 d_V_newTable_25 (z_pc (pc' := 28) rfl ?_)
    refine z_aload_n C d_V_newTable_28 rfl (z_pc (pc' := 29) rfl ?_)
    refine z_iconst C d_V_newTable_29 (z_pc (pc' := 30) rfl ?_)
    obtain ⟨M8, h9, hf⟩ := zbind hf
    refine z_puti C fp_V_209 (by decide) rfl h9 d_V_newTable_30 (z_pc (pc' := 33) rfl ?_)
    refine z_aload_n C d_V_newTable_33 rfl (z_pc (pc' := 34) rfl ?_)
    refine z_iconst C d_V_newTable_34 (z_pc (pc' := 35) rfl ?_)
    obtain ⟨M10, h11, hf⟩ := zbind hf
    refine z_puti C fp_V_210 (by decide) rfl h11 d_V_newTable_35 (z_pc (pc' := 38) rfl ?_)
    refine z_aload_n C d_V_newTable_38 rfl (z_pc (pc' := 39) rfl ?_)
    refine z_null C d_V_newTable_39 (z_pc (pc' := 40) rfl ?_)
    obtain ⟨M12, h13, hf⟩ := zbind hf
    refine z_putr C fp_V_207 rfl (by decide) rfl h13 d_V_newTable_40 (z_pc (pc' := 43) rfl ?_)
    refine z_aload_n C d_V_newTable_43 rfl (z_pc (pc' := 44) rfl ?_)
    exact z_aret C hr (Or.inl ⟨_, rfl⟩) (Nat.le_of_ble_eq_true rfl) (Nat.le_of_ble_eq_true rfl) d_V_newTable_44 hf
  · have hf := zpos c3 hf
    obtain ⟨x14, M17, h15, hf⟩ := zb2_inv hf
    refine z_newO C (ci := 4) 4 rfl rfl kl_V_204 kn_Tb kt_Tb h15 (Nat.le_of_ble_eq_true rfl) (Nat.le_of_ble_eq_true rfl) d_V_newTable_9 (fun g16 => (z_pc (pc' := 12) rfl ?_))
    refine z_dupr C d_V_newTable_12 (z_pc (pc' := 13) rfl ?_)
    obtain ⟨M19, h18, hf⟩ := zbind hf
    refine z_callI C [] [zv n0 x14] g16 ki_V_206 (c_Tb_init D n0 l g16 h18) ⟨(Nat.le_of_ble_eq_true rfl), (Nat.le_of_ble_eq_true rfl)⟩ (Nat.le_of_ble_eq_true rfl) ⟨(Nat.le_of_ble_eq_true rfl), (Nat.le_of_ble_eq_true rfl)⟩ d_V_newTable_13 (z_pc (pc' := 16) rfl ?_)
    refine z_astore_n C d_V_newTable_16 (by decide) (z_pl (pc' := 17) (L' := [some (zv n0 a0), some (zv n0 x14)]) rfl rfl ?_)
    refine z_goto (tgt := 28) C d_V_newTable_17 (by decide) ?_
    refine z_aload_n C d_V_newTable_28 rfl (z_pc (pc' := 29) rfl ?_)
    refine z_iconst C d_V_newTable_29 (z_pc (pc' := 30) rfl ?_)
    obtain ⟨M20, h21, hf⟩ := zbind hf
    refine z_puti C fp_V_209 (by decide) rfl h21 d_V_newTable_30 (z_pc (pc' := 33) rfl ?_)
    refine z_aload_n C d_V_newTable_33 rfl (z_pc (pc' := 34) rfl ?_)
    refine z_iconst C d_V_newTable_34 (z_pc (pc' := 35) rfl ?_)
    obtain ⟨M22, h23, hf⟩ := zbind hf
    refine z_puti C fp_V_210 (by decide) rfl h23 d_V_newTable_35 (z_pc (pc' := 38) rfl ?_)
    refine z_aload_n C d_V_newTable_38 rfl (z_pc (pc' := 39) rfl ?_)
    refine z_null C d_V_newTable_39 (z_pc (pc' := 40) rfl ?_)
    obtain ⟨M24, h25, hf⟩ := zbind hf
    refine z_putr C fp_V_207 rfl (by decide) rfl h25 d_V_newTable_40 (z_pc (pc' := 43) rfl ?_)
    refine z_aload_n C d_V_newTable_43 rfl (z_pc (pc' := 44) rfl ?_)
    exact z_aret C hr (Or.inl ⟨_, rfl⟩) (Nat.le_of_ble_eq_true rfl) (Nat.le_of_ble_eq_true rfl) d_V_newTable_44 hf
set_option maxHeartbeats 4000000 in
set_option maxRecDepth 100000 in
theorem w_V_lay_L4 {D : va_G} {n0 : Nat} {l : Launch} {p : Program} {e : Env} {s : State} {m : MethodId} {args : Array Value} {below : List Frame} {meth : Method} {c : Code} {B Bs : Nat} {a0 : Nat} {a1 : Nat} {M' : zHp} {κ : zHp → Option (zHp)} (C : zC D n0 p s m meth c b_V_lay 4 "LayerVault") (hr : meth.sig.returnType = none) (hB : B ≤ 362) (hBs : Bs ≤ 2172)
    (hκ : ∀ (M1 : zHp), κ M1 = some M' → zZ D n0 p l e { frames := 3, cells := 362, slots := 2172, locals := 61 } s m args below meth c 4 B Bs (MQ below (zQc D n0 none M') args s 362 2172 (fun q => n0 ≤ q)) 88 [none, none, none, none] [] M1) :
    ∀ (n cells slots : Nat), cells + n * 2 ≤ B → slots + n * 12 ≤ Bs → ∀ (v2 : Nat) (v3 : Int) (M : zHp), f_V_lay_L4 κ a0 a1 n v2 v3 M = some M' → zZ D n0 p l e { frames := 3, cells := 362, slots := 2172, locals := 61 } s m args below meth c 4 cells slots (MQ below (zQc D n0 none M') args s 362 2172 (fun q => n0 ≤ q)) 4 [some (zv n0 a0), some (zv n0 a1), some (zv n0 v2), some (zi v3)] [] M := by
  intro n
  induction n with
  | zero =>
    intro cells slots hb1 hb2 v2 v3 M hf
    exact absurd hf (by unfold f_V_lay_L4; simp)
  | succ n ih =>
    intro cells slots hb1 hb2 v2 v3 M hf
    unfold f_V_lay_L4 at hf
    refine z_iload_n C d_V_lay_4 rfl (z_pc (pc' := 5) rfl ?_)
    refine z_aload_n C d_V_lay_5 rfl (z_pc (pc' := 6) rfl ?_)
    obtain ⟨x1, h2, hf⟩ := zbind hf
    refine z_geti C fl_V_181 h2 d_V_lay_6 (z_pc (pc' := 9) rfl ?_)
    refine z_icmp_ge (tgt := 88) C d_V_lay_9 (by decide) (fun c3 => ?_) (fun c3 => z_pc (pc' := 12) rfl ?_)
    · have hf := zpos c3 hf
      exact z_widen (by omega) (by omega) (z_sub2 (hκ _ hf) trivial)
    · have hf := zneg c3 hf
      refine z_aload_n C d_V_lay_12 rfl (z_pc (pc' := 13) rfl ?_)
      obtain ⟨x4, h5, hf⟩ := zbind hf
      refine z_getr C fl_V_71 rfl h5 d_V_lay_13 (z_pc (pc' := 16) rfl ?_)
      refine z_iload_n C d_V_lay_16 rfl (z_pc (pc' := 17) rfl ?_)
      obtain ⟨x6, h7, hf⟩ := zbind hf
      refine z_bald C h7 d_V_lay_17 (z_pc (pc' := 18) rfl ?_)
      refine z_if_ne (tgt := 34) C d_V_lay_18 (by decide) (fun c8 => ?_) (fun c8 => z_pc (pc' := 21) rfl ?_)
      · have hf := zneg c8 hf
        refine z_aload_n C d_V_lay_34 rfl (z_pc (pc' := 35) rfl ?_)
        refine z_ifnull (tgt := 47) C d_V_lay_35 (by decide) (fun c9 => ?_) (fun c9 => (z_pc (pc' := 38) rfl ?_))
        · have hf := zpos c9 hf
          refine z_aload_n C d_V_lay_47 rfl (z_pc (pc' := 48) rfl ?_)
          obtain ⟨x12, M11, h10, hf⟩ := zb2_inv hf
          refine z_callV C [] [] kv_V_221 (c_V_newTable D n0 l h10) (e_V_newTable h10) ⟨(Nat.le_of_ble_eq_true rfl), (Nat.le_of_ble_eq_true rfl)⟩ (Nat.le_of_ble_eq_true rfl) ⟨(by show cells + 2 ≤ 362; omega), (by show slots + 12 ≤ 2172; omega)⟩ d_V_lay_48 (z_pc (pc' := 51) rfl ?_)
          refine z_astore_n C d_V_lay_51 (by decide) (z_pl (pc' := 52) (L' := [some (zv n0 a0), some (zv n0 a1), some (zv n0 x12), some (zi v3)]) rfl rfl ?_)
          refine z_aload_n C d_V_lay_52 rfl (z_pc (pc' := 53) rfl ?_)
          obtain ⟨x13, h14, hf⟩ := zbind hf
          refine z_getr C fl_V_214 rfl h14 d_V_lay_53 (z_pc (pc' := 56) rfl ?_)
          refine z_aload_n C d_V_lay_56 rfl (z_pc (pc' := 57) rfl ?_)
          obtain ⟨x15, h16, hf⟩ := zbind hf
          refine z_geti C fl_V_213 h16 d_V_lay_57 (z_pc (pc' := 60) rfl ?_)
          refine z_aload_n C d_V_lay_60 rfl (z_pc (pc' := 61) rfl ?_)
          obtain ⟨M17, h18, hf⟩ := zbind hf
          refine z_aast C (by decide) h18 d_V_lay_61 (z_pc (pc' := 62) rfl ?_)
          refine z_aload_n C d_V_lay_62 rfl (z_pc (pc' := 63) rfl ?_)
          refine z_dupr C d_V_lay_63 (z_pc (pc' := 64) rfl ?_)
          obtain ⟨x19, h20, hf⟩ := zbind hf
          refine z_geti C fl_V_213 h20 d_V_lay_64 (z_pc (pc' := 67) rfl ?_)
          refine z_iconst C d_V_lay_67 (z_pc (pc' := 68) rfl ?_)
          refine z_iadd C d_V_lay_68 (z_pc (pc' := 69) rfl ?_)
          obtain ⟨M21, h22, hf⟩ := zbind hf
          refine z_puti C fp_V_213 (by decide) rfl h22 d_V_lay_69 (z_pc (pc' := 72) rfl ?_)
          refine z_aload_n C d_V_lay_72 rfl (z_pc (pc' := 73) rfl ?_)
          refine z_aload_n C d_V_lay_73 rfl (z_pc (pc' := 74) rfl ?_)
          obtain ⟨x23, h24, hf⟩ := zbind hf
          refine z_getr C fl_V_67 rfl h24 d_V_lay_74 (z_pc (pc' := 77) rfl ?_)
          refine z_iload_n C d_V_lay_77 rfl (z_pc (pc' := 78) rfl ?_)
          obtain ⟨x25, h26, hf⟩ := zbind hf
          refine z_aald C (by decide) h26 d_V_lay_78 (z_pc (pc' := 79) rfl ?_)
          obtain ⟨M28, h27, hf⟩ := zbind hf
          refine z_callV C [zv n0 x25] [] kv_V_225 (c_Tb_add D n0 l h27) (e_Tb_add h27) ⟨(Nat.le_of_ble_eq_true rfl), (Nat.le_of_ble_eq_true rfl)⟩ (Nat.le_of_ble_eq_true rfl) ⟨(by show cells + 2 ≤ 362; omega), (by show slots + 12 ≤ 2172; omega)⟩ d_V_lay_79 (z_pc (pc' := 82) rfl ?_)
          refine z_iinc C d_V_lay_82 rfl (by decide) (z_pl (pc' := 85) (L' := [some (zv n0 a0), some (zv n0 a1), some (zv n0 x12), some (zi (zadd v3 1))]) rfl rfl ?_)
          refine z_goto (tgt := 4) C d_V_lay_85 (by decide) ?_
          exact z_widen (k := cells + 2) (n := slots + 12) (by omega) (by omega) (z_sub2 (ih (cells + 2) (slots + 12) (by omega) (by omega) _ _ _ hf) (And.intro rfl (And.intro rfl (And.intro rfl (And.intro rfl trivial)))))
        · have hf := zneg c9 hf
          refine z_aload_n C d_V_lay_38 rfl (z_pc (pc' := 39) rfl ?_)
          obtain ⟨x29, h30, hf⟩ := zbind hf
          refine z_geti C fl_V_209 h30 d_V_lay_39 (z_pc (pc' := 42) rfl ?_)
          refine z_bipush C d_V_lay_42 (by decide) (z_pc (pc' := 44) rfl ?_)
          refine z_icmp_ne (tgt := 72) C d_V_lay_44 (by decide) (fun c31 => ?_) (fun c31 => z_pc (pc' := 47) rfl ?_)
          · have hf := zneg c31 hf
            refine z_aload_n C d_V_lay_72 rfl (z_pc (pc' := 73) rfl ?_)
            refine z_aload_n C d_V_lay_73 rfl (z_pc (pc' := 74) rfl ?_)
            obtain ⟨x32, h33, hf⟩ := zbind hf
            refine z_getr C fl_V_67 rfl h33 d_V_lay_74 (z_pc (pc' := 77) rfl ?_)
            refine z_iload_n C d_V_lay_77 rfl (z_pc (pc' := 78) rfl ?_)
            obtain ⟨x34, h35, hf⟩ := zbind hf
            refine z_aald C (by decide) h35 d_V_lay_78 (z_pc (pc' := 79) rfl ?_)
            obtain ⟨M37, h36, hf⟩ := zbind hf
            refine z_callV C [zv n0 x34] [] kv_V_225 (c_Tb_add D n0 l h36) (e_Tb_add h36) ⟨(Nat.le_of_ble_eq_true rfl), (Nat.le_of_ble_eq_true rfl)⟩ (Nat.le_of_ble_eq_true rfl) ⟨(by show cells + 0 ≤ 362; omega), (by show slots + 0 ≤ 2172; omega)⟩ d_V_lay_79 (z_pc (pc' := 82) rfl ?_)
            refine z_iinc C d_V_lay_82 rfl (by decide) (z_pl (pc' := 85) (L' := [some (zv n0 a0), some (zv n0 a1), some (zv n0 v2), some (zi (zadd v3 1))]) rfl rfl ?_)
            refine z_goto (tgt := 4) C d_V_lay_85 (by decide) ?_
            exact z_widen (k := cells + 2) (n := slots + 12) (by omega) (by omega) (z_sub2 (ih (cells + 2) (slots + 12) (by omega) (by omega) _ _ _ hf) (And.intro rfl (And.intro rfl (And.intro rfl (And.intro rfl trivial)))))
          · have hf := zpos c31 hf
            refine z_aload_n C d_V_lay_47 rfl (z_pc (pc' := 48) rfl ?_)
            obtain ⟨x40, M39, h38, hf⟩ := zb2_inv hf
            refine z_callV C [] [] kv_V_221 (c_V_newTable D n0 l h38) (e_V_newTable h38) ⟨(Nat.le_of_ble_eq_true rfl), (Nat.le_of_ble_eq_true rfl)⟩ (Nat.le_of_ble_eq_true rfl) ⟨(by show cells + 2 ≤ 362; omega), (by show slots + 12 ≤ 2172; omega)⟩ d_V_lay_48 (z_pc (pc' := 51) rfl ?_)
            refine z_astore_n C d_V_lay_51 (by decide) (z_pl (pc' := 52) (L' := [some (zv n0 a0), some (zv n0 a1), some (zv n0 x40), some (zi v3)]) rfl rfl ?_)
            refine z_aload_n C d_V_lay_52 rfl (z_pc (pc' := 53) rfl ?_)
            obtain ⟨x41, h42, hf⟩ := zbind hf
            refine z_getr C fl_V_214 rfl h42 d_V_lay_53 (z_pc (pc' := 56) rfl ?_)
            refine z_aload_n C d_V_lay_56 rfl (z_pc (pc' := 57) rfl ?_)
            obtain ⟨x43, h44, hf⟩ := zbind hf
            refine z_geti C fl_V_213 h44 d_V_lay_57 (z_pc (pc' := 60) rfl ?_)
            refine z_aload_n C d_V_lay_60 rfl (z_pc (pc' := 61) rfl ?_)
            obtain ⟨M45, h46, hf⟩ := zbind hf
            refine z_aast C (by decide) h46 d_V_lay_61 (z_pc (pc' := 62) rfl ?_)
            refine z_aload_n C d_V_lay_62 rfl (z_pc (pc' := 63) rfl ?_)
            refine z_dupr C d_V_lay_63 (z_pc (pc' := 64) rfl ?_)
            obtain ⟨x47, h48, hf⟩ := zbind hf
            refine z_geti C fl_V_213 h48 d_V_lay_64 (z_pc (pc' := 67) rfl ?_)
            refine z_iconst C d_V_lay_67 (z_pc (pc' := 68) rfl ?_)
            refine z_iadd C d_V_lay_68 (z_pc (pc' := 69) rfl ?_)
            obtain ⟨M49, h50, hf⟩ := zbind hf
            refine z_puti C fp_V_213 (by decide) rfl h50 d_V_lay_69 (z_pc (pc' := 72) rfl ?_)
            refine z_aload_n C d_V_lay_72 rfl (z_pc (pc' := 73) rfl ?_)
            refine z_aload_n C d_V_lay_73 rfl (z_pc (pc' := 74) rfl ?_)
            obtain ⟨x51, h52, hf⟩ := zbind hf
            refine z_getr C fl_V_67 rfl h52 d_V_lay_74 (z_pc (pc' := 77) rfl ?_)
            refine z_iload_n C d_V_lay_77 rfl (z_pc (pc' := 78) rfl ?_)
            obtain ⟨x53, h54, hf⟩ := zbind hf
            refine z_aald C (by decide) h54 d_V_lay_78 (z_pc (pc' := 79) rfl ?_)
            obtain ⟨M56, h55, hf⟩ := zbind hf
            refine z_callV C [zv n0 x53] [] kv_V_225 (c_Tb_add D n0 l h55) (e_Tb_add h55) ⟨(Nat.le_of_ble_eq_true rfl), (Nat.le_of_ble_eq_true rfl)⟩ (Nat.le_of_ble_eq_true rfl) ⟨(by show cells + 2 ≤ 362; omega), (by show slots + 12 ≤ 2172; omega)⟩ d_V_lay_79 (z_pc (pc' := 82) rfl ?_)
            refine z_iinc C d_V_lay_82 rfl (by decide) (z_pl (pc' := 85) (L' := [some (zv n0 a0), some (zv n0 a1), some (zv n0 x40), some (zi (zadd v3 1))]) rfl rfl ?_)
            refine z_goto (tgt := 4) C d_V_lay_85 (by decide) ?_
            exact z_widen (k := cells + 2) (n := slots + 12) (by omega) (by omega) (z_sub2 (ih (cells + 2) (slots + 12) (by omega) (by omega) _ _ _ hf) (And.intro rfl (And.intro rfl (And.intro rfl (And.intro rfl trivial)))))
      · have hf := zpos c8 hf
        refine z_aload_n C d_V_lay_21 rfl (z_pc (pc' := 22) rfl ?_)
        refine z_aload_n C d_V_lay_22 rfl (z_pc (pc' := 23) rfl ?_)
        obtain ⟨x57, h58, hf⟩ := zbind hf
        refine z_getr C fl_V_67 rfl h58 d_V_lay_23 (z_pc (pc' := 26) rfl ?_)
        refine z_iload_n C d_V_lay_26 rfl (z_pc (pc' := 27) rfl ?_)
        obtain ⟨x59, h60, hf⟩ := zbind hf
        refine z_aald C (by decide) h60 d_V_lay_27 (z_pc (pc' := 28) rfl ?_)
        obtain ⟨M62, h61, hf⟩ := zbind hf
        refine z_callV C [zv n0 x59] [] kv_V_218 (c_V_drop D n0 l h61) (e_V_drop h61) ⟨(Nat.le_of_ble_eq_true rfl), (Nat.le_of_ble_eq_true rfl)⟩ (Nat.le_of_ble_eq_true rfl) ⟨(by show cells + 0 ≤ 362; omega), (by show slots + 0 ≤ 2172; omega)⟩ d_V_lay_28 (z_pc (pc' := 31) rfl ?_)
        refine z_goto (tgt := 82) C d_V_lay_31 (by decide) ?_
        refine z_iinc C d_V_lay_82 rfl (by decide) (z_pl (pc' := 85) (L' := [some (zv n0 a0), some (zv n0 a1), some (zv n0 v2), some (zi (zadd v3 1))]) rfl rfl ?_)
        refine z_goto (tgt := 4) C d_V_lay_85 (by decide) ?_
        exact z_widen (k := cells + 2) (n := slots + 12) (by omega) (by omega) (z_sub2 (ih (cells + 2) (slots + 12) (by omega) (by omega) _ _ _ hf) (And.intro rfl (And.intro rfl (And.intro rfl (And.intro rfl trivial)))))
theorem e_V_lay {a0 : Nat} {a1 : Nat} {M : zHp} {q : zHp} (hf : f_V_lay a0 a1 M = some q) : zk M a0 = 0 := by
  unfold f_V_lay at hf
  exact (zif hf).1
set_option maxHeartbeats 4000000 in
set_option maxRecDepth 100000 in
theorem c_V_lay (D : va_G) (n0 : Nat) (l : Launch) {a0 : Nat} {a1 : Nat} {M : zHp} {M' : zHp} (hf : f_V_lay a0 a1 M = some M') : zM D n0 l y_V_lay b_V_lay 4 none 3 61 362 2172 [zv n0 a0, zv n0 a1] M none M' := by
  refine zM.ofZ (by decide) (zcr (zcr zcn)) (Nat.le_of_ble_eq_true rfl) ?_
  intro p e s m below meth c C hr hnm
  have C : zC D n0 p s m meth c b_V_lay 4 "LayerVault" := C
  refine z_eqL (L' := [some (zv n0 a0), some (zv n0 a1), none, none]) rfl ?_
  unfold f_V_lay at hf
  have hf := (zif hf).2
  refine z_null C d_V_lay_0 (z_pc (pc' := 1) rfl ?_)
  refine z_astore_n C d_V_lay_1 (by decide) (z_pl (pc' := 2) (L' := [some (zv n0 a0), some (zv n0 a1), some (zv n0 0), none]) rfl rfl ?_)
  refine z_iconst C d_V_lay_2 (z_pc (pc' := 3) rfl ?_)
  refine z_istore_n C d_V_lay_3 (by decide) (z_pl (pc' := 4) (L' := [some (zv n0 a0), some (zv n0 a1), some (zv n0 0), some (zi 0)]) rfl rfl ?_)
  refine z_sub2 (w_V_lay_L4 (B := 362) (Bs := 2172) C hr (Nat.le_of_ble_eq_true rfl) (Nat.le_of_ble_eq_true rfl) ?_ zf_V_lay_L4 _ _ (by decide) (by decide) _ _ _ hf) (And.intro rfl (And.intro rfl (And.intro rfl (And.intro rfl trivial))))
  intro M63 hf
  exact z_vret C hr (Nat.le_of_ble_eq_true rfl) (Nat.le_of_ble_eq_true rfl) d_V_lay_88 hf
theorem e_V_mergeDown {a0 : Nat} {a1 : Int} {M : zHp} {q : Int × zHp} (hf : f_V_mergeDown a0 a1 M = some q) : zk M a0 = 0 := by
  unfold f_V_mergeDown at hf
  exact (zif hf).1
set_option maxHeartbeats 4000000 in
set_option maxRecDepth 100000 in
theorem c_V_mergeDown (D : va_G) (n0 : Nat) (l : Launch) {a0 : Nat} {a1 : Int} {M : zHp} {r : Int} {M' : zHp} (hf : f_V_mergeDown a0 a1 M = some (r, M')) : zM D n0 l y_V_mergeDown b_V_mergeDown 3 (some .int) 4 94 362 2172 [zv n0 a0, zi a1] M (some (zi r)) M' := by
  refine zM.ofZ (by decide) (zcr (zci zcn)) (Nat.le_of_ble_eq_true rfl) ?_
  intro p e s m below meth c C hr hnm
  have C : zC D n0 p s m meth c b_V_mergeDown 3 "LayerVault" := C
  refine z_eqL (L' := [some (zv n0 a0), some (zi a1), none]) rfl ?_
  unfold f_V_mergeDown at hf
  have hf := (zif hf).2
  refine z_aload_n C d_V_mergeDown_0 rfl (z_pc (pc' := 1) rfl ?_)
  obtain ⟨x1, h2, hf⟩ := zbind hf
  refine z_getr C fl_V_61 rfl h2 d_V_mergeDown_1 (z_pc (pc' := 4) rfl ?_)
  refine z_iconst C d_V_mergeDown_4 (z_pc (pc' := 5) rfl ?_)
  obtain ⟨M3, h4, hf⟩ := zbind hf
  refine z_puti C fp_V_237 (by decide) rfl h4 d_V_mergeDown_5 (z_pc (pc' := 8) rfl ?_)
  refine z_aload_n C d_V_mergeDown_8 rfl (z_pc (pc' := 9) rfl ?_)
  refine z_iload_n C d_V_mergeDown_9 rfl (z_pc (pc' := 10) rfl ?_)
  refine z_iconst C d_V_mergeDown_10 (z_pc (pc' := 11) rfl ?_)
  obtain ⟨M6, h5, hf⟩ := zbind hf
  refine z_callV C [zi a1, zi 0] [] kv_V_238 (c_V_join D n0 l h5) (e_V_join h5) ⟨(Nat.le_of_ble_eq_true rfl), (Nat.le_of_ble_eq_true rfl)⟩ (Nat.le_of_ble_eq_true rfl) ⟨(Nat.le_of_ble_eq_true rfl), (Nat.le_of_ble_eq_true rfl)⟩ d_V_mergeDown_11 (z_pc (pc' := 14) rfl ?_)
  refine z_aload_n C d_V_mergeDown_14 rfl (z_pc (pc' := 15) rfl ?_)
  refine z_iload_n C d_V_mergeDown_15 rfl (z_pc (pc' := 16) rfl ?_)
  refine z_iconst C d_V_mergeDown_16 (z_pc (pc' := 17) rfl ?_)
  refine z_iadd C d_V_mergeDown_17 (z_pc (pc' := 18) rfl ?_)
  refine z_iconst C d_V_mergeDown_18 (z_pc (pc' := 19) rfl ?_)
  obtain ⟨M8, h7, hf⟩ := zbind hf
  refine z_callV C [zi (zadd a1 1), zi 0] [] kv_V_238 (c_V_join D n0 l h7) (e_V_join h7) ⟨(Nat.le_of_ble_eq_true rfl), (Nat.le_of_ble_eq_true rfl)⟩ (Nat.le_of_ble_eq_true rfl) ⟨(Nat.le_of_ble_eq_true rfl), (Nat.le_of_ble_eq_true rfl)⟩ d_V_mergeDown_19 (z_pc (pc' := 22) rfl ?_)
  refine z_aload_n C d_V_mergeDown_22 rfl (z_pc (pc' := 23) rfl ?_)
  refine z_aload_n C d_V_mergeDown_23 rfl (z_pc (pc' := 24) rfl ?_)
  obtain ⟨x9, h10, hf⟩ := zbind hf
  refine z_getr C fl_V_61 rfl h10 d_V_mergeDown_24 (z_pc (pc' := 27) rfl ?_)
  obtain ⟨M12, h11, hf⟩ := zbind hf
  refine z_callV C [zv n0 x9] [] kv_V_242 (c_V_gather D n0 l h11) (e_V_gather h11) ⟨(Nat.le_of_ble_eq_true rfl), (Nat.le_of_ble_eq_true rfl)⟩ (Nat.le_of_ble_eq_true rfl) ⟨(Nat.le_of_ble_eq_true rfl), (Nat.le_of_ble_eq_true rfl)⟩ d_V_mergeDown_27 (z_pc (pc' := 30) rfl ?_)
  refine z_aload_n C d_V_mergeDown_30 rfl (z_pc (pc' := 31) rfl ?_)
  refine z_iload_n C d_V_mergeDown_31 rfl (z_pc (pc' := 32) rfl ?_)
  refine z_iconst C d_V_mergeDown_32 (z_pc (pc' := 33) rfl ?_)
  refine z_icmp_ne (tgt := 40) C d_V_mergeDown_33 (by decide) (fun c13 => ?_) (fun c13 => z_pc (pc' := 36) rfl ?_)
  · have hf := zneg c13 hf
    refine z_iconst C d_V_mergeDown_40 (z_pc (pc' := 41) rfl ?_)
    obtain ⟨x16, M15, h14, hf⟩ := zb2_inv hf
    refine z_callV C [zi 0] [] kv_V_245 (c_V_sift D n0 l h14) (e_V_sift h14) ⟨(Nat.le_of_ble_eq_true rfl), (Nat.le_of_ble_eq_true rfl)⟩ (Nat.le_of_ble_eq_true rfl) ⟨(Nat.le_of_ble_eq_true rfl), (Nat.le_of_ble_eq_true rfl)⟩ d_V_mergeDown_41 (z_pc (pc' := 44) rfl ?_)
    refine z_istore_n C d_V_mergeDown_44 (by decide) (z_pl (pc' := 45) (L' := [some (zv n0 a0), some (zi a1), some (zi x16)]) rfl rfl ?_)
    refine z_aload_n C d_V_mergeDown_45 rfl (z_pc (pc' := 46) rfl ?_)
    refine z_aload_n C d_V_mergeDown_46 rfl (z_pc (pc' := 47) rfl ?_)
    obtain ⟨x17, h18, hf⟩ := zbind hf
    refine z_getr C fl_V_48 rfl h18 d_V_mergeDown_47 (z_pc (pc' := 50) rfl ?_)
    refine z_iload_n C d_V_mergeDown_50 rfl (z_pc (pc' := 51) rfl ?_)
    obtain ⟨x19, h20, hf⟩ := zbind hf
    refine z_aald C (by decide) h20 d_V_mergeDown_51 (z_pc (pc' := 52) rfl ?_)
    obtain ⟨M22, h21, hf⟩ := zbind hf
    refine z_callV C [zv n0 x19] [] kv_V_249 (c_V_clear D n0 l h21) (e_V_clear h21) ⟨(Nat.le_of_ble_eq_true rfl), (Nat.le_of_ble_eq_true rfl)⟩ (Nat.le_of_ble_eq_true rfl) ⟨(Nat.le_of_ble_eq_true rfl), (Nat.le_of_ble_eq_true rfl)⟩ d_V_mergeDown_52 (z_pc (pc' := 55) rfl ?_)
    refine z_aload_n C d_V_mergeDown_55 rfl (z_pc (pc' := 56) rfl ?_)
    refine z_aload_n C d_V_mergeDown_56 rfl (z_pc (pc' := 57) rfl ?_)
    obtain ⟨x23, h24, hf⟩ := zbind hf
    refine z_getr C fl_V_48 rfl h24 d_V_mergeDown_57 (z_pc (pc' := 60) rfl ?_)
    refine z_iload_n C d_V_mergeDown_60 rfl (z_pc (pc' := 61) rfl ?_)
    refine z_iconst C d_V_mergeDown_61 (z_pc (pc' := 62) rfl ?_)
    refine z_iadd C d_V_mergeDown_62 (z_pc (pc' := 63) rfl ?_)
    obtain ⟨x25, h26, hf⟩ := zbind hf
    refine z_aald C (by decide) h26 d_V_mergeDown_63 (z_pc (pc' := 64) rfl ?_)
    obtain ⟨M28, h27, hf⟩ := zbind hf
    refine z_callV C [zv n0 x25] [] kv_V_249 (c_V_clear D n0 l h27) (e_V_clear h27) ⟨(Nat.le_of_ble_eq_true rfl), (Nat.le_of_ble_eq_true rfl)⟩ (Nat.le_of_ble_eq_true rfl) ⟨(Nat.le_of_ble_eq_true rfl), (Nat.le_of_ble_eq_true rfl)⟩ d_V_mergeDown_64 (z_pc (pc' := 67) rfl ?_)
    refine z_aload_n C d_V_mergeDown_67 rfl (z_pc (pc' := 68) rfl ?_)
    refine z_aload_n C d_V_mergeDown_68 rfl (z_pc (pc' := 69) rfl ?_)
    obtain ⟨x29, h30, hf⟩ := zbind hf
    refine z_getr C fl_V_48 rfl h30 d_V_mergeDown_69 (z_pc (pc' := 72) rfl ?_)
    refine z_iload_n C d_V_mergeDown_72 rfl (z_pc (pc' := 73) rfl ?_)
    refine z_iconst C d_V_mergeDown_73 (z_pc (pc' := 74) rfl ?_)
    refine z_iadd C d_V_mergeDown_74 (z_pc (pc' := 75) rfl ?_)
    obtain ⟨x31, h32, hf⟩ := zbind hf
    refine z_aald C (by decide) h32 d_V_mergeDown_75 (z_pc (pc' := 76) rfl ?_)
    obtain ⟨M34, h33, hf⟩ := zbind hf
    refine z_callV C [zv n0 x31] [] kv_V_253 (c_V_lay D n0 l h33) (e_V_lay h33) ⟨(Nat.le_of_ble_eq_true rfl), (Nat.le_of_ble_eq_true rfl)⟩ (Nat.le_of_ble_eq_true rfl) ⟨(Nat.le_of_ble_eq_true rfl), (Nat.le_of_ble_eq_true rfl)⟩ d_V_mergeDown_76 (z_pc (pc' := 79) rfl ?_)
    refine z_iload_n C d_V_mergeDown_79 rfl (z_pc (pc' := 80) rfl ?_)
    exact z_iret C hr (Nat.le_of_ble_eq_true rfl) (Nat.le_of_ble_eq_true rfl) d_V_mergeDown_80 hf
  · have hf := zpos c13 hf
    refine z_iconst C d_V_mergeDown_36 (z_pc (pc' := 37) rfl ?_)
    refine z_goto (tgt := 41) C d_V_mergeDown_37 (by decide) ?_
    obtain ⟨x37, M36, h35, hf⟩ := zb2_inv hf
    refine z_callV C [zi 1] [] kv_V_245 (c_V_sift D n0 l h35) (e_V_sift h35) ⟨(Nat.le_of_ble_eq_true rfl), (Nat.le_of_ble_eq_true rfl)⟩ (Nat.le_of_ble_eq_true rfl) ⟨(Nat.le_of_ble_eq_true rfl), (Nat.le_of_ble_eq_true rfl)⟩ d_V_mergeDown_41 (z_pc (pc' := 44) rfl ?_)
    refine z_istore_n C d_V_mergeDown_44 (by decide) (z_pl (pc' := 45) (L' := [some (zv n0 a0), some (zi a1), some (zi x37)]) rfl rfl ?_)
    refine z_aload_n C d_V_mergeDown_45 rfl (z_pc (pc' := 46) rfl ?_)
    refine z_aload_n C d_V_mergeDown_46 rfl (z_pc (pc' := 47) rfl ?_)
    obtain ⟨x38, h39, hf⟩ := zbind hf
    refine z_getr C fl_V_48 rfl h39 d_V_mergeDown_47 (z_pc (pc' := 50) rfl ?_)
    refine z_iload_n C d_V_mergeDown_50 rfl (z_pc (pc' := 51) rfl ?_)
    obtain ⟨x40, h41, hf⟩ := zbind hf
    refine z_aald C (by decide) h41 d_V_mergeDown_51 (z_pc (pc' := 52) rfl ?_)
    obtain ⟨M43, h42, hf⟩ := zbind hf
    refine z_callV C [zv n0 x40] [] kv_V_249 (c_V_clear D n0 l h42) (e_V_clear h42) ⟨(Nat.le_of_ble_eq_true rfl), (Nat.le_of_ble_eq_true rfl)⟩ (Nat.le_of_ble_eq_true rfl) ⟨(Nat.le_of_ble_eq_true rfl), (Nat.le_of_ble_eq_true rfl)⟩ d_V_mergeDown_52 (z_pc (pc' := 55) rfl ?_)
    refine z_aload_n C d_V_mergeDown_55 rfl (z_pc (pc' := 56) rfl ?_)
    refine z_aload_n C d_V_mergeDown_56 rfl (z_pc (pc' := 57) rfl ?_)
    obtain ⟨x44, h45, hf⟩ := zbind hf
    refine z_getr C fl_V_48 rfl h45 d_V_mergeDown_57 (z_pc (pc' := 60) rfl ?_)
    refine z_iload_n C d_V_mergeDown_60 rfl (z_pc (pc' := 61) rfl ?_)
    refine z_iconst C d_V_mergeDown_61 (z_pc (pc' := 62) rfl ?_)
    refine z_iadd C d_V_mergeDown_62 (z_pc (pc' := 63) rfl ?_)
    obtain ⟨x46, h47, hf⟩ := zbind hf
    refine z_aald C (by decide) h47 d_V_mergeDown_63 (z_pc (pc' := 64) rfl ?_)
    obtain ⟨M49, h48, hf⟩ := zbind hf
    refine z_callV C [zv n0 x46] [] kv_V_249 (c_V_clear D n0 l h48) (e_V_clear h48) ⟨(Nat.le_of_ble_eq_true rfl), (Nat.le_of_ble_eq_true rfl)⟩ (Nat.le_of_ble_eq_true rfl) ⟨(Nat.le_of_ble_eq_true rfl), (Nat.le_of_ble_eq_true rfl)⟩ d_V_mergeDown_64 (z_pc (pc' := 67) rfl ?_)
    refine z_aload_n C d_V_mergeDown_67 rfl (z_pc (pc' := 68) rfl ?_)
    refine z_aload_n C d_V_mergeDown_68 rfl (z_pc (pc' := 69) rfl ?_)
    obtain ⟨x50, h51, hf⟩ := zbind hf
    refine z_getr C fl_V_48 rfl h51 d_V_mergeDown_69 (z_pc (pc' := 72) rfl ?_)
    refine z_iload_n C d_V_mergeDown_72 rfl (z_pc (pc' := 73) rfl ?_)
    refine z_iconst C d_V_mergeDown_73 (z_pc (pc' := 74) rfl ?_)
    refine z_iadd C d_V_mergeDown_74 (z_pc (pc' := 75) rfl ?_)
    obtain ⟨x52, h53, hf⟩ := zbind hf
    refine z_aald C (by decide) h53 d_V_mergeDown_75 (z_pc (pc' := 76) rfl ?_)
    obtain ⟨M55, h54, hf⟩ := zbind hf
    refine z_callV C [zv n0 x52] [] kv_V_253 (c_V_lay D n0 l h54) (e_V_lay h54) ⟨(Nat.le_of_ble_eq_true rfl), (Nat.le_of_ble_eq_true rfl)⟩ (Nat.le_of_ble_eq_true rfl) ⟨(Nat.le_of_ble_eq_true rfl), (Nat.le_of_ble_eq_true rfl)⟩ d_V_mergeDown_76 (z_pc (pc' := 79) rfl ?_)
    refine z_iload_n C d_V_mergeDown_79 rfl (z_pc (pc' := 80) rfl ?_)
    exact z_iret C hr (Nat.le_of_ble_eq_true rfl) (Nat.le_of_ble_eq_true rfl) d_V_mergeDown_80 hf
theorem e_V_mergeFrom {a0 : Nat} {a1 : Int} {M : zHp} {q : Int × zHp} (hf : f_V_mergeFrom a0 a1 M = some q) : zk M a0 = 0 := by
  unfold f_V_mergeFrom at hf
  exact (zif hf).1
set_option maxHeartbeats 4000000 in
set_option maxRecDepth 100000 in
theorem c_V_mergeFrom (D : va_G) (n0 : Nat) (l : Launch) {a0 : Nat} {a1 : Int} {M : zHp} {r : Int} {M' : zHp} (hf : f_V_mergeFrom a0 a1 M = some (r, M')) : zM D n0 l y_V_mergeFrom b_V_mergeFrom 3 (some .int) 5 116 724 4344 [zv n0 a0, zi a1] M (some (zi r)) M' := by
  refine zM.ofZ (by decide) (zcr (zci zcn)) (Nat.le_of_ble_eq_true rfl) ?_
  intro p e s m below meth c C hr hnm
  have C : zC D n0 p s m meth c b_V_mergeFrom 3 "LayerVault" := C
  refine z_eqL (L' := [some (zv n0 a0), some (zi a1), none]) rfl ?_
  unfold f_V_mergeFrom at hf
  have hf := (zif hf).2
  refine z_aload_n C d_V_mergeFrom_0 rfl (z_pc (pc' := 1) rfl ?_)
  refine z_iload_n C d_V_mergeFrom_1 rfl (z_pc (pc' := 2) rfl ?_)
  obtain ⟨x3, M2, h1, hf⟩ := zb2_inv hf
  refine z_callV C [zi a1] [] kv_V_256 (c_V_mergeDown D n0 l h1) (e_V_mergeDown h1) ⟨(Nat.le_of_ble_eq_true rfl), (Nat.le_of_ble_eq_true rfl)⟩ (Nat.le_of_ble_eq_true rfl) ⟨(Nat.le_of_ble_eq_true rfl), (Nat.le_of_ble_eq_true rfl)⟩ d_V_mergeFrom_2 (z_pc (pc' := 5) rfl ?_)
  refine z_istore_n C d_V_mergeFrom_5 (by decide) (z_pl (pc' := 6) (L' := [some (zv n0 a0), some (zi a1), some (zi x3)]) rfl rfl ?_)
  refine z_iload_n C d_V_mergeFrom_6 rfl (z_pc (pc' := 7) rfl ?_)
  refine z_if_ne (tgt := 34) C d_V_mergeFrom_7 (by decide) (fun c4 => ?_) (fun c4 => z_pc (pc' := 10) rfl ?_)
  · have hf := zneg c4 hf
    refine z_iload_n C d_V_mergeFrom_34 rfl (z_pc (pc' := 35) rfl ?_)
    exact z_iret C hr (Nat.le_of_ble_eq_true rfl) (Nat.le_of_ble_eq_true rfl) d_V_mergeFrom_35 hf
  · have hf := zpos c4 hf
    refine z_aload_n C d_V_mergeFrom_10 rfl (z_pc (pc' := 11) rfl ?_)
    obtain ⟨x5, h6, hf⟩ := zbind hf
    refine z_getr C fl_V_48 rfl h6 d_V_mergeFrom_11 (z_pc (pc' := 14) rfl ?_)
    refine z_iconst C d_V_mergeFrom_14 (z_pc (pc' := 15) rfl ?_)
    obtain ⟨x7, h8, hf⟩ := zbind hf
    refine z_aald C (by decide) h8 d_V_mergeFrom_15 (z_pc (pc' := 16) rfl ?_)
    obtain ⟨x11, M10, h9, hf⟩ := zb2_inv hf
    refine z_callV C [] [] kv_V_260 (c_Lv_entries D n0 l h9) (e_Lv_entries h9) ⟨(Nat.le_of_ble_eq_true rfl), (Nat.le_of_ble_eq_true rfl)⟩ (Nat.le_of_ble_eq_true rfl) ⟨(Nat.le_of_ble_eq_true rfl), (Nat.le_of_ble_eq_true rfl)⟩ d_V_mergeFrom_16 (z_pc (pc' := 19) rfl ?_)
    refine z_bipush C d_V_mergeFrom_19 (by decide) (z_pc (pc' := 21) rfl ?_)
    refine z_icmp_le (tgt := 34) C d_V_mergeFrom_21 (by decide) (fun c12 => ?_) (fun c12 => z_pc (pc' := 24) rfl ?_)
    · have hf := zpos c12 hf
      refine z_iload_n C d_V_mergeFrom_34 rfl (z_pc (pc' := 35) rfl ?_)
      exact z_iret C hr (Nat.le_of_ble_eq_true rfl) (Nat.le_of_ble_eq_true rfl) d_V_mergeFrom_35 hf
    · have hf := zneg c12 hf
      refine z_iload_n C d_V_mergeFrom_24 rfl (z_pc (pc' := 25) rfl ?_)
      refine z_aload_n C d_V_mergeFrom_25 rfl (z_pc (pc' := 26) rfl ?_)
      refine z_iconst C d_V_mergeFrom_26 (z_pc (pc' := 27) rfl ?_)
      obtain ⟨x15, M14, h13, hf⟩ := zb2_inv hf
      refine z_callV C [zi 1] [zi x3] kv_V_256 (c_V_mergeDown D n0 l h13) (e_V_mergeDown h13) ⟨(Nat.le_of_ble_eq_true rfl), (Nat.le_of_ble_eq_true rfl)⟩ (Nat.le_of_ble_eq_true rfl) ⟨(Nat.le_of_ble_eq_true rfl), (Nat.le_of_ble_eq_true rfl)⟩ d_V_mergeFrom_27 (z_pc (pc' := 30) rfl ?_)
      refine z_iadd C d_V_mergeFrom_30 (z_pc (pc' := 31) rfl ?_)
      refine z_goto (tgt := 35) C d_V_mergeFrom_31 (by decide) ?_
      exact z_iret C hr (Nat.le_of_ble_eq_true rfl) (Nat.le_of_ble_eq_true rfl) d_V_mergeFrom_35 hf
set_option maxHeartbeats 4000000 in
set_option maxRecDepth 100000 in
theorem w_V_flush_L66 {D : va_G} {n0 : Nat} {l : Launch} {p : Program} {e : Env} {s : State} {m : MethodId} {args : Array Value} {below : List Frame} {meth : Method} {c : Code} {cells slots : Nat} {a0 : Nat} {a2 : Nat} {a3 : Int} {a4 : Nat} {r : Int} {M' : zHp} {κ : zHp → Option (Int × zHp)} (C : zC D n0 p s m meth c b_V_flush 6 "LayerVault") (hr : meth.sig.returnType = (some .int)) (hB : cells ≤ 726) (hBs : slots ≤ 4356)
    (hκ : ∀ (M1 : zHp), κ M1 = some (r, M') → zZ D n0 p l e { frames := 6, cells := 726, slots := 4356, locals := 138 } s m args below meth c 6 cells slots (MQ below (zQc D n0 (some (zi r)) M') args s 726 4356 (fun q => n0 ≤ q)) 117 [some (zv n0 a0), none, some (zv n0 a2), some (zi a3), some (zv n0 a4), none] [] M1) :
    ∀ (n : Nat) (v5 : Int) (M : zHp), f_V_flush_L66 κ a0 a4 n v5 M = some (r, M') → zZ D n0 p l e { frames := 6, cells := 726, slots := 4356, locals := 138 } s m args below meth c 6 cells slots (MQ below (zQc D n0 (some (zi r)) M') args s 726 4356 (fun q => n0 ≤ q)) 66 [some (zv n0 a0), none, some (zv n0 a2), some (zi a3), some (zv n0 a4), some (zi v5)] [] M := by
  intro n
  induction n with
  | zero =>
    intro v5 M hf
    exact absurd hf (by unfold f_V_flush_L66; simp)
  | succ n ih =>
    intro v5 M hf
    unfold f_V_flush_L66 at hf
    refine z_iload C d_V_flush_66 rfl (z_pc (pc' := 68) rfl ?_)
    refine z_aload_n C d_V_flush_68 rfl (z_pc (pc' := 69) rfl ?_)
    obtain ⟨x27, h28, hf⟩ := zbind hf
    refine z_geti C fl_V_181 h28 d_V_flush_69 (z_pc (pc' := 72) rfl ?_)
    refine z_icmp_ge (tgt := 117) C d_V_flush_72 (by decide) (fun c29 => ?_) (fun c29 => z_pc (pc' := 75) rfl ?_)
    · have hf := zpos c29 hf
      exact z_sub2 (hκ _ hf) (And.intro rfl (And.intro rfl (And.intro rfl (And.intro rfl trivial))))
    · have hf := zneg c29 hf
      refine z_aload_n C d_V_flush_75 rfl (z_pc (pc' := 76) rfl ?_)
      obtain ⟨x30, h31, hf⟩ := zbind hf
      refine z_getr C fl_V_71 rfl h31 d_V_flush_76 (z_pc (pc' := 79) rfl ?_)
      refine z_iload C d_V_flush_79 rfl (z_pc (pc' := 81) rfl ?_)
      obtain ⟨x32, h33, hf⟩ := zbind hf
      refine z_bald C h33 d_V_flush_81 (z_pc (pc' := 82) rfl ?_)
      refine z_if_eq (tgt := 100) C d_V_flush_82 (by decide) (fun c34 => ?_) (fun c34 => z_pc (pc' := 85) rfl ?_)
      · have hf := zpos c34 hf
        refine z_aload_n C d_V_flush_100 rfl (z_pc (pc' := 101) rfl ?_)
        refine z_aload_n C d_V_flush_101 rfl (z_pc (pc' := 102) rfl ?_)
        obtain ⟨x35, h36, hf⟩ := zbind hf
        refine z_getr C fl_V_67 rfl h36 d_V_flush_102 (z_pc (pc' := 105) rfl ?_)
        refine z_iload C d_V_flush_105 rfl (z_pc (pc' := 107) rfl ?_)
        obtain ⟨x37, h38, hf⟩ := zbind hf
        refine z_aald C (by decide) h38 d_V_flush_107 (z_pc (pc' := 108) rfl ?_)
        obtain ⟨M40, h39, hf⟩ := zbind hf
        refine z_callV C [zv n0 x37] [] kv_V_218 (c_V_drop D n0 l h39) (e_V_drop h39) ⟨(Nat.le_of_ble_eq_true rfl), (Nat.le_of_ble_eq_true rfl)⟩ (Nat.le_of_ble_eq_true rfl) ⟨(by show cells + 0 ≤ 726; omega), (by show slots + 0 ≤ 4356; omega)⟩ d_V_flush_108 (z_pc (pc' := 111) rfl ?_)
        refine z_iinc C d_V_flush_111 rfl (by decide) (z_pl (pc' := 114) (L' := [some (zv n0 a0), none, some (zv n0 a2), some (zi a3), some (zv n0 a4), some (zi (zadd v5 1))]) rfl rfl ?_)
        refine z_goto (tgt := 66) C d_V_flush_114 (by decide) ?_
        exact z_sub2 (ih _ _ hf) (And.intro rfl (And.intro rfl (And.intro rfl (And.intro rfl (And.intro rfl trivial)))))
      · have hf := zneg c34 hf
        refine z_aload C d_V_flush_85 rfl (z_pc (pc' := 87) rfl ?_)
        refine z_aload_n C d_V_flush_87 rfl (z_pc (pc' := 88) rfl ?_)
        obtain ⟨x41, h42, hf⟩ := zbind hf
        refine z_getr C fl_V_67 rfl h42 d_V_flush_88 (z_pc (pc' := 91) rfl ?_)
        refine z_iload C d_V_flush_91 rfl (z_pc (pc' := 93) rfl ?_)
        obtain ⟨x43, h44, hf⟩ := zbind hf
        refine z_aald C (by decide) h44 d_V_flush_93 (z_pc (pc' := 94) rfl ?_)
        obtain ⟨M46, h45, hf⟩ := zbind hf
        refine z_callV C [zv n0 x43] [] kv_V_225 (c_Tb_add D n0 l h45) (e_Tb_add h45) ⟨(Nat.le_of_ble_eq_true rfl), (Nat.le_of_ble_eq_true rfl)⟩ (Nat.le_of_ble_eq_true rfl) ⟨(by show cells + 0 ≤ 726; omega), (by show slots + 0 ≤ 4356; omega)⟩ d_V_flush_94 (z_pc (pc' := 97) rfl ?_)
        refine z_goto (tgt := 111) C d_V_flush_97 (by decide) ?_
        refine z_iinc C d_V_flush_111 rfl (by decide) (z_pl (pc' := 114) (L' := [some (zv n0 a0), none, some (zv n0 a2), some (zi a3), some (zv n0 a4), some (zi (zadd v5 1))]) rfl rfl ?_)
        refine z_goto (tgt := 66) C d_V_flush_114 (by decide) ?_
        exact z_sub2 (ih _ _ hf) (And.intro rfl (And.intro rfl (And.intro rfl (And.intro rfl (And.intro rfl trivial)))))
set_option maxHeartbeats 4000000 in
set_option maxRecDepth 100000 in
theorem w_V_flush_L123 {D : va_G} {n0 : Nat} {l : Launch} {p : Program} {e : Env} {s : State} {m : MethodId} {args : Array Value} {below : List Frame} {meth : Method} {c : Code} {cells slots : Nat} {a0 : Nat} {a2 : Nat} {a3 : Int} {a4 : Nat} {r : Int} {M' : zHp} {κ : zHp → Option (Int × zHp)} (C : zC D n0 p s m meth c b_V_flush 6 "LayerVault") (hr : meth.sig.returnType = (some .int)) (hB : cells ≤ 726) (hBs : slots ≤ 4356)
    (hκ : ∀ (M1 : zHp), κ M1 = some (r, M') → zZ D n0 p l e { frames := 6, cells := 726, slots := 4356, locals := 138 } s m args below meth c 6 cells slots (MQ below (zQc D n0 (some (zi r)) M') args s 726 4356 (fun q => n0 ≤ q)) 150 [some (zv n0 a0), none, some (zv n0 a2), some (zi a3), some (zv n0 a4), none] [] M1) :
    ∀ (n : Nat) (v5 : Int) (M : zHp), f_V_flush_L123 κ a2 n v5 M = some (r, M') → zZ D n0 p l e { frames := 6, cells := 726, slots := 4356, locals := 138 } s m args below meth c 6 cells slots (MQ below (zQc D n0 (some (zi r)) M') args s 726 4356 (fun q => n0 ≤ q)) 123 [some (zv n0 a0), none, some (zv n0 a2), some (zi a3), some (zv n0 a4), some (zi v5)] [] M := by
  intro n
  induction n with
  | zero =>
    intro v5 M hf
    exact absurd hf (by unfold f_V_flush_L123; simp)
  | succ n ih =>
    intro v5 M hf
    unfold f_V_flush_L123 at hf
    refine z_iload C d_V_flush_123 rfl (z_pc (pc' := 125) rfl ?_)
    refine z_if_le (tgt := 150) C d_V_flush_125 (by decide) (fun c50 => ?_) (fun c50 => z_pc (pc' := 128) rfl ?_)
    · have hf := zpos c50 hf
      exact z_sub2 (hκ _ hf) (And.intro rfl (And.intro rfl (And.intro rfl (And.intro rfl trivial))))
    · have hf := zneg c50 hf
      refine z_aload_n C d_V_flush_128 rfl (z_pc (pc' := 129) rfl ?_)
      obtain ⟨x51, h52, hf⟩ := zbind hf
      refine z_getr C fl_V_214 rfl h52 d_V_flush_129 (z_pc (pc' := 132) rfl ?_)
      refine z_iload C d_V_flush_132 rfl (z_pc (pc' := 134) rfl ?_)
      refine z_aload_n C d_V_flush_134 rfl (z_pc (pc' := 135) rfl ?_)
      obtain ⟨x53, h54, hf⟩ := zbind hf
      refine z_getr C fl_V_214 rfl h54 d_V_flush_135 (z_pc (pc' := 138) rfl ?_)
      refine z_iload C d_V_flush_138 rfl (z_pc (pc' := 140) rfl ?_)
      refine z_iconst C d_V_flush_140 (z_pc (pc' := 141) rfl ?_)
      refine z_isub C d_V_flush_141 (z_pc (pc' := 142) rfl ?_)
      obtain ⟨x55, h56, hf⟩ := zbind hf
      refine z_aald C (by decide) h56 d_V_flush_142 (z_pc (pc' := 143) rfl ?_)
      obtain ⟨M57, h58, hf⟩ := zbind hf
      refine z_aast C (by decide) h58 d_V_flush_143 (z_pc (pc' := 144) rfl ?_)
      refine z_iinc C d_V_flush_144 rfl (by decide) (z_pl (pc' := 147) (L' := [some (zv n0 a0), none, some (zv n0 a2), some (zi a3), some (zv n0 a4), some (zi (zadd v5 (-1)))]) rfl rfl ?_)
      refine z_goto (tgt := 123) C d_V_flush_147 (by decide) ?_
      exact z_sub2 (ih _ _ hf) (And.intro rfl (And.intro rfl (And.intro rfl (And.intro rfl (And.intro rfl trivial)))))
theorem e_V_flush {a0 : Nat} {M : zHp} {q : Int × zHp} (hf : f_V_flush a0 M = some q) : zk M a0 = 0 := by
  unfold f_V_flush at hf
  exact (zif hf).1
set_option maxHeartbeats 4000000 in
set_option maxRecDepth 100000 in
theorem c_V_flush (D : va_G) (n0 : Nat) (l : Launch) {a0 : Nat} {M : zHp} {r : Int} {M' : zHp} (hf : f_V_flush a0 M = some (r, M')) : zM D n0 l y_V_flush b_V_flush 6 (some .int) 6 138 726 4356 [zv n0 a0] M (some (zi r)) M' := by
  refine zM.ofZ (by decide) (zcr zcn) (Nat.le_of_ble_eq_true rfl) ?_
  intro p e s m below meth c C hr hnm
  have C : zC D n0 p s m meth c b_V_flush 6 "LayerVault" := C
  refine z_eqL (L' := [some (zv n0 a0), none, none, none, none, none]) rfl ?_
  unfold f_V_flush at hf
  have hf := (zif hf).2
  refine z_aload_n C d_V_flush_0 rfl (z_pc (pc' := 1) rfl ?_)
  obtain ⟨x1, h2, hf⟩ := zbind hf
  refine z_getr C fl_V_42 rfl h2 d_V_flush_1 (z_pc (pc' := 4) rfl ?_)
  obtain ⟨x3, h4, hf⟩ := zbind hf
  refine z_geti C fl_V_120 h4 d_V_flush_4 (z_pc (pc' := 7) rfl ?_)
  refine z_istore_n C d_V_flush_7 (by decide) (z_pl (pc' := 8) (L' := [some (zv n0 a0), some (zi x3), none, none, none, none]) rfl rfl ?_)
  refine z_iload_n C d_V_flush_8 rfl (z_pc (pc' := 9) rfl ?_)
  refine z_if_ne (tgt := 14) C d_V_flush_9 (by decide) (fun c5 => ?_) (fun c5 => z_pc (pc' := 12) rfl ?_)
  · have hf := zneg c5 hf
    refine z_aload_n C d_V_flush_14 rfl (z_pc (pc' := 15) rfl ?_)
    obtain ⟨x6, h7, hf⟩ := zbind hf
    refine z_getr C fl_V_48 rfl h7 d_V_flush_15 (z_pc (pc' := 18) rfl ?_)
    refine z_iconst C d_V_flush_18 (z_pc (pc' := 19) rfl ?_)
    obtain ⟨x8, h9, hf⟩ := zbind hf
    refine z_aald C (by decide) h9 d_V_flush_19 (z_pc (pc' := 20) rfl ?_)
    refine z_astore_n C d_V_flush_20 (by decide) (z_pl (pc' := 21) (L' := [some (zv n0 a0), some (zi x3), some (zv n0 x8), none, none, none]) rfl rfl ?_)
    refine z_aload_n C d_V_flush_21 rfl (z_pc (pc' := 22) rfl ?_)
    obtain ⟨x10, h11, hf⟩ := zbind hf
    refine z_geti C fl_V_213 h11 d_V_flush_22 (z_pc (pc' := 25) rfl ?_)
    refine z_iconst C d_V_flush_25 (z_pc (pc' := 26) rfl ?_)
    refine z_icmp_ne (tgt := 35) C d_V_flush_26 (by decide) (fun c12 => ?_) (fun c12 => z_pc (pc' := 29) rfl ?_)
    · have hf := zneg c12 hf
      refine z_aload_n C d_V_flush_35 rfl (z_pc (pc' := 36) rfl ?_)
      obtain ⟨x13, h14, hf⟩ := zbind hf
      refine z_getr C fl_V_42 rfl h14 d_V_flush_36 (z_pc (pc' := 39) rfl ?_)
      refine z_iconst C d_V_flush_39 (z_pc (pc' := 40) rfl ?_)
      obtain ⟨M16, h15, hf⟩ := zbind hf
      refine z_callV C [zi 0] [] kv_V_266 (c_Mt_begin D n0 l h15) (e_Mt_begin h15) ⟨(Nat.le_of_ble_eq_true rfl), (Nat.le_of_ble_eq_true rfl)⟩ (Nat.le_of_ble_eq_true rfl) ⟨(Nat.le_of_ble_eq_true rfl), (Nat.le_of_ble_eq_true rfl)⟩ d_V_flush_40 (z_pc (pc' := 43) rfl ?_)
      refine z_aload_n C d_V_flush_43 rfl (z_pc (pc' := 44) rfl ?_)
      refine z_aload_n C d_V_flush_44 rfl (z_pc (pc' := 45) rfl ?_)
      obtain ⟨x17, h18, hf⟩ := zbind hf
      refine z_getr C fl_V_42 rfl h18 d_V_flush_45 (z_pc (pc' := 48) rfl ?_)
      obtain ⟨M20, h19, hf⟩ := zbind hf
      refine z_callV C [zv n0 x17] [] kv_V_242 (c_V_gather D n0 l h19) (e_V_gather h19) ⟨(Nat.le_of_ble_eq_true rfl), (Nat.le_of_ble_eq_true rfl)⟩ (Nat.le_of_ble_eq_true rfl) ⟨(Nat.le_of_ble_eq_true rfl), (Nat.le_of_ble_eq_true rfl)⟩ d_V_flush_48 (z_pc (pc' := 51) rfl ?_)
      refine z_aload_n C d_V_flush_51 rfl (z_pc (pc' := 52) rfl ?_)
      refine z_iconst C d_V_flush_52 (z_pc (pc' := 53) rfl ?_)
      obtain ⟨x23, M22, h21, hf⟩ := zb2_inv hf
      refine z_callV C [zi 0] [] kv_V_245 (c_V_sift D n0 l h21) (e_V_sift h21) ⟨(Nat.le_of_ble_eq_true rfl), (Nat.le_of_ble_eq_true rfl)⟩ (Nat.le_of_ble_eq_true rfl) ⟨(Nat.le_of_ble_eq_true rfl), (Nat.le_of_ble_eq_true rfl)⟩ d_V_flush_53 (z_pc (pc' := 56) rfl ?_)
      refine z_istore_n C d_V_flush_56 (by decide) (z_pl (pc' := 57) (L' := [some (zv n0 a0), some (zi x3), some (zv n0 x8), some (zi x23), none, none]) rfl rfl ?_)
      refine z_aload_n C d_V_flush_57 rfl (z_pc (pc' := 58) rfl ?_)
      obtain ⟨x26, M25, h24, hf⟩ := zb2_inv hf
      refine z_callV C [] [] kv_V_221 (c_V_newTable D n0 l h24) (e_V_newTable h24) ⟨(Nat.le_of_ble_eq_true rfl), (Nat.le_of_ble_eq_true rfl)⟩ (Nat.le_of_ble_eq_true rfl) ⟨(Nat.le_of_ble_eq_true rfl), (Nat.le_of_ble_eq_true rfl)⟩ d_V_flush_58 (z_pc (pc' := 61) rfl ?_)
      refine z_astore C d_V_flush_61 (by decide) (z_pl (pc' := 63) (L' := [some (zv n0 a0), some (zi x3), some (zv n0 x8), some (zi x23), some (zv n0 x26), none]) rfl rfl ?_)
      refine z_iconst C d_V_flush_63 (z_pc (pc' := 64) rfl ?_)
      refine z_istore C d_V_flush_64 (by decide) (z_pl (pc' := 66) (L' := [some (zv n0 a0), some (zi x3), some (zv n0 x8), some (zi x23), some (zv n0 x26), some (zi 0)]) rfl rfl ?_)
      refine z_sub2 (w_V_flush_L66 C hr (Nat.le_of_ble_eq_true rfl) (Nat.le_of_ble_eq_true rfl) ?_ _ _ _ hf) (And.intro rfl (And.intro rfl (And.intro rfl (And.intro rfl (And.intro rfl trivial)))))
      intro M47 hf
      refine z_aload_n C d_V_flush_117 rfl (z_pc (pc' := 118) rfl ?_)
      obtain ⟨x48, h49, hf⟩ := zbind hf
      refine z_geti C fl_V_213 h49 d_V_flush_118 (z_pc (pc' := 121) rfl ?_)
      refine z_istore C d_V_flush_121 (by decide) (z_pl (pc' := 123) (L' := [some (zv n0 a0), none, some (zv n0 x8), some (zi x23), some (zv n0 x26), some (zi x48)]) rfl rfl ?_)
      refine z_sub2 (w_V_flush_L123 C hr (Nat.le_of_ble_eq_true rfl) (Nat.le_of_ble_eq_true rfl) ?_ _ _ _ hf) (And.intro rfl (And.intro rfl (And.intro rfl (And.intro rfl (And.intro rfl trivial)))))
      intro M59 hf
      refine z_aload_n C d_V_flush_150 rfl (z_pc (pc' := 151) rfl ?_)
      obtain ⟨x60, h61, hf⟩ := zbind hf
      refine z_getr C fl_V_214 rfl h61 d_V_flush_151 (z_pc (pc' := 154) rfl ?_)
      refine z_iconst C d_V_flush_154 (z_pc (pc' := 155) rfl ?_)
      refine z_aload C d_V_flush_155 rfl (z_pc (pc' := 157) rfl ?_)
      obtain ⟨M62, h63, hf⟩ := zbind hf
      refine z_aast C (by decide) h63 d_V_flush_157 (z_pc (pc' := 158) rfl ?_)
      refine z_aload_n C d_V_flush_158 rfl (z_pc (pc' := 159) rfl ?_)
      refine z_dupr C d_V_flush_159 (z_pc (pc' := 160) rfl ?_)
      obtain ⟨x64, h65, hf⟩ := zbind hf
      refine z_geti C fl_V_213 h65 d_V_flush_160 (z_pc (pc' := 163) rfl ?_)
      refine z_iconst C d_V_flush_163 (z_pc (pc' := 164) rfl ?_)
      refine z_iadd C d_V_flush_164 (z_pc (pc' := 165) rfl ?_)
      obtain ⟨M66, h67, hf⟩ := zbind hf
      refine z_puti C fp_V_213 (by decide) rfl h67 d_V_flush_165 (z_pc (pc' := 168) rfl ?_)
      refine z_aload_n C d_V_flush_168 rfl (z_pc (pc' := 169) rfl ?_)
      obtain ⟨x68, h69, hf⟩ := zbind hf
      refine z_getr C fl_V_42 rfl h69 d_V_flush_169 (z_pc (pc' := 172) rfl ?_)
      obtain ⟨M71, h70, hf⟩ := zbind hf
      refine z_callV C [] [] kv_V_267 (c_Mt_clear D n0 l h70) (e_Mt_clear h70) ⟨(Nat.le_of_ble_eq_true rfl), (Nat.le_of_ble_eq_true rfl)⟩ (Nat.le_of_ble_eq_true rfl) ⟨(Nat.le_of_ble_eq_true rfl), (Nat.le_of_ble_eq_true rfl)⟩ d_V_flush_172 (z_pc (pc' := 175) rfl ?_)
      refine z_aload_n C d_V_flush_175 rfl (z_pc (pc' := 176) rfl ?_)
      refine z_aload_n C d_V_flush_176 rfl (z_pc (pc' := 177) rfl ?_)
      obtain ⟨x72, h73, hf⟩ := zbind hf
      refine z_geti C fl_V_97 h73 d_V_flush_177 (z_pc (pc' := 180) rfl ?_)
      obtain ⟨M74, h75, hf⟩ := zbind hf
      refine z_puti C fp_V_269 (by decide) rfl h75 d_V_flush_180 (z_pc (pc' := 183) rfl ?_)
      refine z_aload_n C d_V_flush_183 rfl (z_pc (pc' := 184) rfl ?_)
      obtain ⟨M77, h76, hf⟩ := zbind hf
      refine z_callV C [] [] kv_V_106 (c_V_syncAll D n0 l h76) (e_V_syncAll h76) ⟨(Nat.le_of_ble_eq_true rfl), (Nat.le_of_ble_eq_true rfl)⟩ (Nat.le_of_ble_eq_true rfl) ⟨(Nat.le_of_ble_eq_true rfl), (Nat.le_of_ble_eq_true rfl)⟩ d_V_flush_184 (z_pc (pc' := 187) rfl ?_)
      refine z_aload C d_V_flush_187 rfl (z_pc (pc' := 189) rfl ?_)
      obtain ⟨x78, h79, hf⟩ := zbind hf
      refine z_geti C fl_V_209 h79 d_V_flush_189 (z_pc (pc' := 192) rfl ?_)
      refine z_iload_n C d_V_flush_192 rfl (z_pc (pc' := 193) rfl ?_)
      refine z_iadd C d_V_flush_193 (z_pc (pc' := 194) rfl ?_)
      exact z_iret C hr (Nat.le_of_ble_eq_true rfl) (Nat.le_of_ble_eq_true rfl) d_V_flush_194 hf
    · have hf := zpos c12 hf
      refine z_aload_n C d_V_flush_29 rfl (z_pc (pc' := 30) rfl ?_)
      refine z_iconst C d_V_flush_30 (z_pc (pc' := 31) rfl ?_)
      obtain ⟨x82, M81, h80, hf⟩ := zb2_inv hf
      refine z_callV C [zi 0] [] kv_V_263 (c_V_mergeFrom D n0 l h80) (e_V_mergeFrom h80) ⟨(Nat.le_of_ble_eq_true rfl), (Nat.le_of_ble_eq_true rfl)⟩ (Nat.le_of_ble_eq_true rfl) ⟨(Nat.le_of_ble_eq_true rfl), (Nat.le_of_ble_eq_true rfl)⟩ d_V_flush_31 (z_pc (pc' := 34) rfl ?_)
      refine z_popi C d_V_flush_34 (z_pc (pc' := 35) rfl ?_)
      refine z_aload_n C d_V_flush_35 rfl (z_pc (pc' := 36) rfl ?_)
      obtain ⟨x83, h84, hf⟩ := zbind hf
      refine z_getr C fl_V_42 rfl h84 d_V_flush_36 (z_pc (pc' := 39) rfl ?_)
      refine z_iconst C d_V_flush_39 (z_pc (pc' := 40) rfl ?_)
      obtain ⟨M86, h85, hf⟩ := zbind hf
      refine z_callV C [zi 0] [] kv_V_266 (c_Mt_begin D n0 l h85) (e_Mt_begin h85) ⟨(Nat.le_of_ble_eq_true rfl), (Nat.le_of_ble_eq_true rfl)⟩ (Nat.le_of_ble_eq_true rfl) ⟨(Nat.le_of_ble_eq_true rfl), (Nat.le_of_ble_eq_true rfl)⟩ d_V_flush_40 (z_pc (pc' := 43) rfl ?_)
      refine z_aload_n C d_V_flush_43 rfl (z_pc (pc' := 44) rfl ?_)
      refine z_aload_n C d_V_flush_44 rfl (z_pc (pc' := 45) rfl ?_)
      obtain ⟨x87, h88, hf⟩ := zbind hf
      refine z_getr C fl_V_42 rfl h88 d_V_flush_45 (z_pc (pc' := 48) rfl ?_)
      obtain ⟨M90, h89, hf⟩ := zbind hf
      refine z_callV C [zv n0 x87] [] kv_V_242 (c_V_gather D n0 l h89) (e_V_gather h89) ⟨(Nat.le_of_ble_eq_true rfl), (Nat.le_of_ble_eq_true rfl)⟩ (Nat.le_of_ble_eq_true rfl) ⟨(Nat.le_of_ble_eq_true rfl), (Nat.le_of_ble_eq_true rfl)⟩ d_V_flush_48 (z_pc (pc' := 51) rfl ?_)
      refine z_aload_n C d_V_flush_51 rfl (z_pc (pc' := 52) rfl ?_)
      refine z_iconst C d_V_flush_52 (z_pc (pc' := 53) rfl ?_)
      obtain ⟨x93, M92, h91, hf⟩ := zb2_inv hf
      refine z_callV C [zi 0] [] kv_V_245 (c_V_sift D n0 l h91) (e_V_sift h91) ⟨(Nat.le_of_ble_eq_true rfl), (Nat.le_of_ble_eq_true rfl)⟩ (Nat.le_of_ble_eq_true rfl) ⟨(Nat.le_of_ble_eq_true rfl), (Nat.le_of_ble_eq_true rfl)⟩ d_V_flush_53 (z_pc (pc' := 56) rfl ?_)
      refine z_istore_n C d_V_flush_56 (by decide) (z_pl (pc' := 57) (L' := [some (zv n0 a0), some (zi x3), some (zv n0 x8), some (zi x93), none, none]) rfl rfl ?_)
      refine z_aload_n C d_V_flush_57 rfl (z_pc (pc' := 58) rfl ?_)
      obtain ⟨x96, M95, h94, hf⟩ := zb2_inv hf
      refine z_callV C [] [] kv_V_221 (c_V_newTable D n0 l h94) (e_V_newTable h94) ⟨(Nat.le_of_ble_eq_true rfl), (Nat.le_of_ble_eq_true rfl)⟩ (Nat.le_of_ble_eq_true rfl) ⟨(Nat.le_of_ble_eq_true rfl), (Nat.le_of_ble_eq_true rfl)⟩ d_V_flush_58 (z_pc (pc' := 61) rfl ?_)
      refine z_astore C d_V_flush_61 (by decide) (z_pl (pc' := 63) (L' := [some (zv n0 a0), some (zi x3), some (zv n0 x8), some (zi x93), some (zv n0 x96), none]) rfl rfl ?_)
      refine z_iconst C d_V_flush_63 (z_pc (pc' := 64) rfl ?_)
      refine z_istore C d_V_flush_64 (by decide) (z_pl (pc' := 66) (L' := [some (zv n0 a0), some (zi x3), some (zv n0 x8), some (zi x93), some (zv n0 x96), some (zi 0)]) rfl rfl ?_)
      refine z_sub2 (w_V_flush_L66 C hr (Nat.le_of_ble_eq_true rfl) (Nat.le_of_ble_eq_true rfl) ?_ _ _ _ hf) (And.intro rfl (And.intro rfl (And.intro rfl (And.intro rfl (And.intro rfl trivial)))))
      intro M97 hf
      refine z_aload_n C d_V_flush_117 rfl (z_pc (pc' := 118) rfl ?_)
      obtain ⟨x98, h99, hf⟩ := zbind hf
      refine z_geti C fl_V_213 h99 d_V_flush_118 (z_pc (pc' := 121) rfl ?_)
      refine z_istore C d_V_flush_121 (by decide) (z_pl (pc' := 123) (L' := [some (zv n0 a0), none, some (zv n0 x8), some (zi x93), some (zv n0 x96), some (zi x98)]) rfl rfl ?_)
      refine z_sub2 (w_V_flush_L123 C hr (Nat.le_of_ble_eq_true rfl) (Nat.le_of_ble_eq_true rfl) ?_ _ _ _ hf) (And.intro rfl (And.intro rfl (And.intro rfl (And.intro rfl (And.intro rfl trivial)))))
      intro M100 hf
      refine z_aload_n C d_V_flush_150 rfl (z_pc (pc' := 151) rfl ?_)
      obtain ⟨x101, h102, hf⟩ := zbind hf
      refine z_getr C fl_V_214 rfl h102 d_V_flush_151 (z_pc (pc' := 154) rfl ?_)
      refine z_iconst C d_V_flush_154 (z_pc (pc' := 155) rfl ?_)
      refine z_aload C d_V_flush_155 rfl (z_pc (pc' := 157) rfl ?_)
      obtain ⟨M103, h104, hf⟩ := zbind hf
      refine z_aast C (by decide) h104 d_V_flush_157 (z_pc (pc' := 158) rfl ?_)
      refine z_aload_n C d_V_flush_158 rfl (z_pc (pc' := 159) rfl ?_)
      refine z_dupr C d_V_flush_159 (z_pc (pc' := 160) rfl ?_)
      obtain ⟨x105, h106, hf⟩ := zbind hf
      refine z_geti C fl_V_213 h106 d_V_flush_160 (z_pc (pc' := 163) rfl ?_)
      refine z_iconst C d_V_flush_163 (z_pc (pc' := 164) rfl ?_)
      refine z_iadd C d_V_flush_164 (z_pc (pc' := 165) rfl ?_)
      obtain ⟨M107, h108, hf⟩ := zbind hf
      refine z_puti C fp_V_213 (by decide) rfl h108 d_V_flush_165 (z_pc (pc' := 168) rfl ?_)
      refine z_aload_n C d_V_flush_168 rfl (z_pc (pc' := 169) rfl ?_)
      obtain ⟨x109, h110, hf⟩ := zbind hf
      refine z_getr C fl_V_42 rfl h110 d_V_flush_169 (z_pc (pc' := 172) rfl ?_)
      obtain ⟨M112, h111, hf⟩ := zbind hf
      refine z_callV C [] [] kv_V_267 (c_Mt_clear D n0 l h111) (e_Mt_clear h111) ⟨(Nat.le_of_ble_eq_true rfl), (Nat.le_of_ble_eq_true rfl)⟩ (Nat.le_of_ble_eq_true rfl) ⟨(Nat.le_of_ble_eq_true rfl), (Nat.le_of_ble_eq_true rfl)⟩ d_V_flush_172 (z_pc (pc' := 175) rfl ?_)
      refine z_aload_n C d_V_flush_175 rfl (z_pc (pc' := 176) rfl ?_)
      refine z_aload_n C d_V_flush_176 rfl (z_pc (pc' := 177) rfl ?_)
      obtain ⟨x113, h114, hf⟩ := zbind hf
      refine z_geti C fl_V_97 h114 d_V_flush_177 (z_pc (pc' := 180) rfl ?_)
      obtain ⟨M115, h116, hf⟩ := zbind hf
      refine z_puti C fp_V_269 (by decide) rfl h116 d_V_flush_180 (z_pc (pc' := 183) rfl ?_)
      refine z_aload_n C d_V_flush_183 rfl (z_pc (pc' := 184) rfl ?_)
      obtain ⟨M118, h117, hf⟩ := zbind hf
      refine z_callV C [] [] kv_V_106 (c_V_syncAll D n0 l h117) (e_V_syncAll h117) ⟨(Nat.le_of_ble_eq_true rfl), (Nat.le_of_ble_eq_true rfl)⟩ (Nat.le_of_ble_eq_true rfl) ⟨(Nat.le_of_ble_eq_true rfl), (Nat.le_of_ble_eq_true rfl)⟩ d_V_flush_184 (z_pc (pc' := 187) rfl ?_)
      refine z_aload C d_V_flush_187 rfl (z_pc (pc' := 189) rfl ?_)
      obtain ⟨x119, h120, hf⟩ := zbind hf
      refine z_geti C fl_V_209 h120 d_V_flush_189 (z_pc (pc' := 192) rfl ?_)
      refine z_iload_n C d_V_flush_192 rfl (z_pc (pc' := 193) rfl ?_)
      refine z_iadd C d_V_flush_193 (z_pc (pc' := 194) rfl ?_)
      exact z_iret C hr (Nat.le_of_ble_eq_true rfl) (Nat.le_of_ble_eq_true rfl) d_V_flush_194 hf
  · have hf := zpos c5 hf
    refine z_iconst C d_V_flush_12 (z_pc (pc' := 13) rfl ?_)
    exact z_iret C hr (Nat.le_of_ble_eq_true rfl) (Nat.le_of_ble_eq_true rfl) d_V_flush_13 hf
