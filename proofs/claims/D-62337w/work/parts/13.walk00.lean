-- walks (printed by main.py)
set_option maxHeartbeats 4000000 in
set_option maxRecDepth 100000 in
theorem c_E_init (D : va_G) (n0 : Nat) (l : Launch) {a0 : Nat} {M : zHp} {M' : zHp} (h0 : 0 < a0) (hf : f_E_init a0 M = some M') : zM D n0 l y_E_init b_E_init 1 none 1 20 1 3 [zv n0 a0] M none M' := by
  refine zM.ofZ (by decide) (zcr zcn) (Nat.le_of_ble_eq_true rfl) ?_
  intro p e s m below meth c C hr hnm
  have C : zC D n0 p s m meth c b_E_init 1 "LayerVault$Entry" := C
  have hnm : meth.name = "<init>" := hnm
  refine z_eqL (L' := [some (zv n0 a0)]) rfl ?_
  unfold f_E_init at hf
  refine z_aload_n C d_E_init_0 rfl (z_pc (pc' := 1) rfl ?_)
  refine z_objInit C h0 kj_E_3 kj_inst kj_code ⟨(Nat.le_of_ble_eq_true rfl), (Nat.le_of_ble_eq_true rfl)⟩ (Nat.le_of_ble_eq_true rfl) d_E_init_1 (z_pc (pc' := 4) rfl ?_)
  refine z_aload_n C d_E_init_4 rfl (z_pc (pc' := 5) rfl ?_)
  refine z_iconst C d_E_init_5 (z_pc (pc' := 6) rfl ?_)
  obtain ⟨x1, M3, h2, hf⟩ := zb2_inv hf
  refine z_newR C (by decide) rfl (by decide) kl_E_9 ko_E h2 (Nat.le_of_ble_eq_true rfl) (Nat.le_of_ble_eq_true rfl) d_E_init_6 (z_pc (pc' := 9) rfl ?_)
  obtain ⟨M4, h5, hf⟩ := zbind hf
  refine z_putfr C hnm ff_E_11 rfl (by decide) rfl h5 d_E_init_9 (z_pc (pc' := 12) rfl ?_)
  exact z_vret C hr (Nat.le_of_ble_eq_true rfl) (Nat.le_of_ble_eq_true rfl) d_E_init_12 hf
theorem e_E_before {a0 : Nat} {a1 : Int} {a2 : Int} {M : zHp} {q : Int × zHp} (hf : f_E_before a0 a1 a2 M = some q) : zk M a0 = 1 := by
  unfold f_E_before at hf
  exact (zif hf).1
set_option maxHeartbeats 4000000 in
set_option maxRecDepth 100000 in
theorem c_E_before (D : va_G) (n0 : Nat) (l : Launch) {a0 : Nat} {a1 : Int} {a2 : Int} {M : zHp} {r : Int} {M' : zHp} (hf : f_E_before a0 a1 a2 M = some (r, M')) : zM D n0 l y_E_before b_E_before 3 (some .boolean) 0 0 0 0 [zv n0 a0, zi a1, zi a2] M (some (zi r)) M' := by
  refine zM.ofZ (by decide) (zcr (zci (zci zcn))) (Nat.le_of_ble_eq_true rfl) ?_
  intro p e s m below meth c C hr hnm
  have C : zC D n0 p s m meth c b_E_before 3 "LayerVault$Entry" := C
  refine z_eqL (L' := [some (zv n0 a0), some (zi a1), some (zi a2)]) rfl ?_
  unfold f_E_before at hf
  have hf := (zif hf).2
  refine z_aload_n C d_E_before_0 rfl (z_pc (pc' := 1) rfl ?_)
  obtain ⟨x1, h2, hf⟩ := zbind hf
  refine z_geti C fl_E_15 h2 d_E_before_1 (z_pc (pc' := 4) rfl ?_)
  refine z_iload_n C d_E_before_4 rfl (z_pc (pc' := 5) rfl ?_)
  refine z_icmp_lt (tgt := 24) C d_E_before_5 (by decide) (fun c3 => ?_) (fun c3 => z_pc (pc' := 8) rfl ?_)
  · have hf := zpos c3 hf
    refine z_iconst C d_E_before_24 (z_pc (pc' := 25) rfl ?_)
    refine z_goto (tgt := 29) C d_E_before_25 (by decide) ?_
    exact z_zret C hr rfl (Nat.le_of_ble_eq_true rfl) (Nat.le_of_ble_eq_true rfl) d_E_before_29 hf
  · have hf := zneg c3 hf
    refine z_aload_n C d_E_before_8 rfl (z_pc (pc' := 9) rfl ?_)
    obtain ⟨x4, h5, hf⟩ := zbind hf
    refine z_geti C fl_E_15 h5 d_E_before_9 (z_pc (pc' := 12) rfl ?_)
    refine z_iload_n C d_E_before_12 rfl (z_pc (pc' := 13) rfl ?_)
    refine z_icmp_ne (tgt := 28) C d_E_before_13 (by decide) (fun c6 => ?_) (fun c6 => z_pc (pc' := 16) rfl ?_)
    · have hf := zneg c6 hf
      refine z_iconst C d_E_before_28 (z_pc (pc' := 29) rfl ?_)
      exact z_zret C hr rfl (Nat.le_of_ble_eq_true rfl) (Nat.le_of_ble_eq_true rfl) d_E_before_29 hf
    · have hf := zpos c6 hf
      refine z_aload_n C d_E_before_16 rfl (z_pc (pc' := 17) rfl ?_)
      obtain ⟨x7, h8, hf⟩ := zbind hf
      refine z_geti C fl_E_19 h8 d_E_before_17 (z_pc (pc' := 20) rfl ?_)
      refine z_iload_n C d_E_before_20 rfl (z_pc (pc' := 21) rfl ?_)
      refine z_icmp_le (tgt := 28) C d_E_before_21 (by decide) (fun c9 => ?_) (fun c9 => z_pc (pc' := 24) rfl ?_)
      · have hf := zpos c9 hf
        refine z_iconst C d_E_before_28 (z_pc (pc' := 29) rfl ?_)
        exact z_zret C hr rfl (Nat.le_of_ble_eq_true rfl) (Nat.le_of_ble_eq_true rfl) d_E_before_29 hf
      · have hf := zneg c9 hf
        refine z_iconst C d_E_before_24 (z_pc (pc' := 25) rfl ?_)
        refine z_goto (tgt := 29) C d_E_before_25 (by decide) ?_
        exact z_zret C hr rfl (Nat.le_of_ble_eq_true rfl) (Nat.le_of_ble_eq_true rfl) d_E_before_29 hf
theorem e_E_gone {a0 : Nat} {a1 : Int} {M : zHp} {q : Int × zHp} (hf : f_E_gone a0 a1 M = some q) : zk M a0 = 1 := by
  unfold f_E_gone at hf
  exact (zif hf).1
set_option maxHeartbeats 4000000 in
set_option maxRecDepth 100000 in
theorem c_E_gone (D : va_G) (n0 : Nat) (l : Launch) {a0 : Nat} {a1 : Int} {M : zHp} {r : Int} {M' : zHp} (hf : f_E_gone a0 a1 M = some (r, M')) : zM D n0 l y_E_gone b_E_gone 2 (some .boolean) 0 0 0 0 [zv n0 a0, zi a1] M (some (zi r)) M' := by
  refine zM.ofZ (by decide) (zcr (zci zcn)) (Nat.le_of_ble_eq_true rfl) ?_
  intro p e s m below meth c C hr hnm
  have C : zC D n0 p s m meth c b_E_gone 2 "LayerVault$Entry" := C
  refine z_eqL (L' := [some (zv n0 a0), some (zi a1)]) rfl ?_
  unfold f_E_gone at hf
  have hf := (zif hf).2
  refine z_aload_n C d_E_gone_0 rfl (z_pc (pc' := 1) rfl ?_)
  obtain ⟨x1, h2, hf⟩ := zbind hf
  refine z_geti C fl_E_22 h2 d_E_gone_1 (z_pc (pc' := 4) rfl ?_)
  refine z_if_ne (tgt := 22) C d_E_gone_4 (by decide) (fun c3 => ?_) (fun c3 => z_pc (pc' := 7) rfl ?_)
  · have hf := zneg c3 hf
    refine z_iconst C d_E_gone_22 (z_pc (pc' := 23) rfl ?_)
    refine z_goto (tgt := 27) C d_E_gone_23 (by decide) ?_
    exact z_zret C hr rfl (Nat.le_of_ble_eq_true rfl) (Nat.le_of_ble_eq_true rfl) d_E_gone_27 hf
  · have hf := zpos c3 hf
    refine z_aload_n C d_E_gone_7 rfl (z_pc (pc' := 8) rfl ?_)
    obtain ⟨x4, h5, hf⟩ := zbind hf
    refine z_geti C fl_E_26 h5 d_E_gone_8 (z_pc (pc' := 11) rfl ?_)
    refine z_if_lt (tgt := 26) C d_E_gone_11 (by decide) (fun c6 => ?_) (fun c6 => z_pc (pc' := 14) rfl ?_)
    · have hf := zpos c6 hf
      refine z_iconst C d_E_gone_26 (z_pc (pc' := 27) rfl ?_)
      exact z_zret C hr rfl (Nat.le_of_ble_eq_true rfl) (Nat.le_of_ble_eq_true rfl) d_E_gone_27 hf
    · have hf := zneg c6 hf
      refine z_iload_n C d_E_gone_14 rfl (z_pc (pc' := 15) rfl ?_)
      refine z_aload_n C d_E_gone_15 rfl (z_pc (pc' := 16) rfl ?_)
      obtain ⟨x7, h8, hf⟩ := zbind hf
      refine z_geti C fl_E_26 h8 d_E_gone_16 (z_pc (pc' := 19) rfl ?_)
      refine z_icmp_lt (tgt := 26) C d_E_gone_19 (by decide) (fun c9 => ?_) (fun c9 => z_pc (pc' := 22) rfl ?_)
      · have hf := zpos c9 hf
        refine z_iconst C d_E_gone_26 (z_pc (pc' := 27) rfl ?_)
        exact z_zret C hr rfl (Nat.le_of_ble_eq_true rfl) (Nat.le_of_ble_eq_true rfl) d_E_gone_27 hf
      · have hf := zneg c9 hf
        refine z_iconst C d_E_gone_22 (z_pc (pc' := 23) rfl ?_)
        refine z_goto (tgt := 27) C d_E_gone_23 (by decide) ?_
        exact z_zret C hr rfl (Nat.le_of_ble_eq_true rfl) (Nat.le_of_ble_eq_true rfl) d_E_gone_27 hf
theorem e_E_value {a0 : Nat} {M : zHp} {q : Int × zHp} (hf : f_E_value a0 M = some q) : zk M a0 = 1 := by
  unfold f_E_value at hf
  exact (zif hf).1
set_option maxHeartbeats 4000000 in
set_option maxRecDepth 100000 in
theorem c_E_value (D : va_G) (n0 : Nat) (l : Launch) {a0 : Nat} {M : zHp} {r : Int} {M' : zHp} (hf : f_E_value a0 M = some (r, M')) : zM D n0 l y_E_value b_E_value 1 (some .int) 0 0 0 0 [zv n0 a0] M (some (zi r)) M' := by
  refine zM.ofZ (by decide) (zcr zcn) (Nat.le_of_ble_eq_true rfl) ?_
  intro p e s m below meth c C hr hnm
  have C : zC D n0 p s m meth c b_E_value 1 "LayerVault$Entry" := C
  refine z_eqL (L' := [some (zv n0 a0)]) rfl ?_
  unfold f_E_value at hf
  have hf := (zif hf).2
  refine z_aload_n C d_E_value_0 rfl (z_pc (pc' := 1) rfl ?_)
  obtain ⟨x1, h2, hf⟩ := zbind hf
  refine z_getr C fl_E_29 rfl h2 d_E_value_1 (z_pc (pc' := 4) rfl ?_)
  obtain ⟨x3, h4, hf⟩ := zbind hf
  refine z_getr C fl_E_33 rfl h4 d_E_value_4 (z_pc (pc' := 7) rfl ?_)
  refine z_aload_n C d_E_value_7 rfl (z_pc (pc' := 8) rfl ?_)
  obtain ⟨x5, h6, hf⟩ := zbind hf
  refine z_geti C fl_E_39 h6 d_E_value_8 (z_pc (pc' := 11) rfl ?_)
  obtain ⟨x7, h8, hf⟩ := zbind hf
  refine z_iald C h8 d_E_value_11 (z_pc (pc' := 12) rfl ?_)
  exact z_iret C hr (Nat.le_of_ble_eq_true rfl) (Nat.le_of_ble_eq_true rfl) d_E_value_12 hf
theorem e_E_leave {a0 : Nat} {M : zHp} {q : zHp} (hf : f_E_leave a0 M = some q) : zk M a0 = 1 := by
  unfold f_E_leave at hf
  exact (zif hf).1
set_option maxHeartbeats 4000000 in
set_option maxRecDepth 100000 in
theorem c_E_leave (D : va_G) (n0 : Nat) (l : Launch) {a0 : Nat} {M : zHp} {M' : zHp} (hf : f_E_leave a0 M = some M') : zM D n0 l y_E_leave b_E_leave 1 none 0 0 0 0 [zv n0 a0] M none M' := by
  refine zM.ofZ (by decide) (zcr zcn) (Nat.le_of_ble_eq_true rfl) ?_
  intro p e s m below meth c C hr hnm
  have C : zC D n0 p s m meth c b_E_leave 1 "LayerVault$Entry" := C
  refine z_eqL (L' := [some (zv n0 a0)]) rfl ?_
  unfold f_E_leave at hf
  have hf := (zif hf).2
  refine z_aload_n C d_E_leave_0 rfl (z_pc (pc' := 1) rfl ?_)
  obtain ⟨x1, h2, hf⟩ := zbind hf
  refine z_getr C fl_E_29 rfl h2 d_E_leave_1 (z_pc (pc' := 4) rfl ?_)
  refine z_ifnull (tgt := 27) C d_E_leave_4 (by decide) (fun c3 => ?_) (fun c3 => (z_pc (pc' := 7) rfl ?_))
  · have hf := zpos c3 hf
    refine z_aload_n C d_E_leave_27 rfl (z_pc (pc' := 28) rfl ?_)
    refine z_null C d_E_leave_28 (z_pc (pc' := 29) rfl ?_)
    obtain ⟨M4, h5, hf⟩ := zbind hf
    refine z_putr C fp_E_29 rfl (by decide) rfl h5 d_E_leave_29 (z_pc (pc' := 32) rfl ?_)
    exact z_vret C hr (Nat.le_of_ble_eq_true rfl) (Nat.le_of_ble_eq_true rfl) d_E_leave_32 hf
  · have hf := zneg c3 hf
    refine z_aload_n C d_E_leave_7 rfl (z_pc (pc' := 8) rfl ?_)
    obtain ⟨x6, h7, hf⟩ := zbind hf
    refine z_geti C fl_E_22 h7 d_E_leave_8 (z_pc (pc' := 11) rfl ?_)
    refine z_if_ne (tgt := 27) C d_E_leave_11 (by decide) (fun c8 => ?_) (fun c8 => z_pc (pc' := 14) rfl ?_)
    · have hf := zneg c8 hf
      refine z_aload_n C d_E_leave_27 rfl (z_pc (pc' := 28) rfl ?_)
      refine z_null C d_E_leave_28 (z_pc (pc' := 29) rfl ?_)
      obtain ⟨M9, h10, hf⟩ := zbind hf
      refine z_putr C fp_E_29 rfl (by decide) rfl h10 d_E_leave_29 (z_pc (pc' := 32) rfl ?_)
      exact z_vret C hr (Nat.le_of_ble_eq_true rfl) (Nat.le_of_ble_eq_true rfl) d_E_leave_32 hf
    · have hf := zpos c8 hf
      refine z_aload_n C d_E_leave_14 rfl (z_pc (pc' := 15) rfl ?_)
      obtain ⟨x11, h12, hf⟩ := zbind hf
      refine z_getr C fl_E_29 rfl h12 d_E_leave_15 (z_pc (pc' := 18) rfl ?_)
      refine z_dupr C d_E_leave_18 (z_pc (pc' := 19) rfl ?_)
      obtain ⟨x13, h14, hf⟩ := zbind hf
      refine z_geti C fl_E_45 h14 d_E_leave_19 (z_pc (pc' := 22) rfl ?_)
      refine z_iconst C d_E_leave_22 (z_pc (pc' := 23) rfl ?_)
      refine z_isub C d_E_leave_23 (z_pc (pc' := 24) rfl ?_)
      obtain ⟨M15, h16, hf⟩ := zbind hf
      refine z_puti C fp_E_45 (by decide) rfl h16 d_E_leave_24 (z_pc (pc' := 27) rfl ?_)
      refine z_aload_n C d_E_leave_27 rfl (z_pc (pc' := 28) rfl ?_)
      refine z_null C d_E_leave_28 (z_pc (pc' := 29) rfl ?_)
      obtain ⟨M17, h18, hf⟩ := zbind hf
      refine z_putr C fp_E_29 rfl (by decide) rfl h18 d_E_leave_29 (z_pc (pc' := 32) rfl ?_)
      exact z_vret C hr (Nat.le_of_ble_eq_true rfl) (Nat.le_of_ble_eq_true rfl) d_E_leave_32 hf
theorem e_E_settle {a0 : Nat} {a1 : Nat} {a2 : Int} {M : zHp} {q : zHp} (hf : f_E_settle a0 a1 a2 M = some q) : zk M a0 = 1 := by
  unfold f_E_settle at hf
  exact (zif hf).1
set_option maxHeartbeats 4000000 in
set_option maxRecDepth 100000 in
theorem c_E_settle (D : va_G) (n0 : Nat) (l : Launch) {a0 : Nat} {a1 : Nat} {a2 : Int} {M : zHp} {M' : zHp} (hf : f_E_settle a0 a1 a2 M = some M') : zM D n0 l y_E_settle b_E_settle 3 none 1 20 0 0 [zv n0 a0, zv n0 a1, zi a2] M none M' := by
  refine zM.ofZ (by decide) (zcr (zcr (zci zcn))) (Nat.le_of_ble_eq_true rfl) ?_
  intro p e s m below meth c C hr hnm
  have C : zC D n0 p s m meth c b_E_settle 3 "LayerVault$Entry" := C
  refine z_eqL (L' := [some (zv n0 a0), some (zv n0 a1), some (zi a2)]) rfl ?_
  unfold f_E_settle at hf
  have hf := (zif hf).2
  refine z_aload_n C d_E_settle_0 rfl (z_pc (pc' := 1) rfl ?_)
  obtain ⟨M2, h1, hf⟩ := zbind hf
  refine z_callV C [] [] kv_E_42 (c_E_leave D n0 l h1) (e_E_leave h1) ⟨(Nat.le_of_ble_eq_true rfl), (Nat.le_of_ble_eq_true rfl)⟩ (Nat.le_of_ble_eq_true rfl) ⟨(Nat.le_of_ble_eq_true rfl), (Nat.le_of_ble_eq_true rfl)⟩ d_E_settle_1 (z_pc (pc' := 4) rfl ?_)
  refine z_aload_n C d_E_settle_4 rfl (z_pc (pc' := 5) rfl ?_)
  refine z_aload_n C d_E_settle_5 rfl (z_pc (pc' := 6) rfl ?_)
  obtain ⟨M3, h4, hf⟩ := zbind hf
  refine z_putr C fp_E_29 rfl (by decide) rfl h4 d_E_settle_6 (z_pc (pc' := 9) rfl ?_)
  refine z_aload_n C d_E_settle_9 rfl (z_pc (pc' := 10) rfl ?_)
  refine z_iload_n C d_E_settle_10 rfl (z_pc (pc' := 11) rfl ?_)
  obtain ⟨M5, h6, hf⟩ := zbind hf
  refine z_puti C fp_E_39 (by decide) rfl h6 d_E_settle_11 (z_pc (pc' := 14) rfl ?_)
  refine z_aload_n C d_E_settle_14 rfl (z_pc (pc' := 15) rfl ?_)
  obtain ⟨x7, h8, hf⟩ := zbind hf
  refine z_geti C fl_E_22 h8 d_E_settle_15 (z_pc (pc' := 18) rfl ?_)
  refine z_if_ne (tgt := 31) C d_E_settle_18 (by decide) (fun c9 => ?_) (fun c9 => z_pc (pc' := 21) rfl ?_)
  · have hf := zneg c9 hf
    exact z_vret C hr (Nat.le_of_ble_eq_true rfl) (Nat.le_of_ble_eq_true rfl) d_E_settle_31 hf
  · have hf := zpos c9 hf
    refine z_aload_n C d_E_settle_21 rfl (z_pc (pc' := 22) rfl ?_)
    refine z_dupr C d_E_settle_22 (z_pc (pc' := 23) rfl ?_)
    obtain ⟨x10, h11, hf⟩ := zbind hf
    refine z_geti C fl_E_45 h11 d_E_settle_23 (z_pc (pc' := 26) rfl ?_)
    refine z_iconst C d_E_settle_26 (z_pc (pc' := 27) rfl ?_)
    refine z_iadd C d_E_settle_27 (z_pc (pc' := 28) rfl ?_)
    obtain ⟨M12, h13, hf⟩ := zbind hf
    refine z_puti C fp_E_45 (by decide) rfl h13 d_E_settle_28 (z_pc (pc' := 31) rfl ?_)
    exact z_vret C hr (Nat.le_of_ble_eq_true rfl) (Nat.le_of_ble_eq_true rfl) d_E_settle_31 hf
set_option maxHeartbeats 4000000 in
set_option maxRecDepth 100000 in
theorem c_S_init (D : va_G) (n0 : Nat) (l : Launch) {a0 : Nat} {M : zHp} {M' : zHp} (h0 : 0 < a0) (hf : f_S_init a0 M = some M') : zM D n0 l y_S_init b_S_init 1 none 1 20 3 48 [zv n0 a0] M none M' := by
  refine zM.ofZ (by decide) (zcr zcn) (Nat.le_of_ble_eq_true rfl) ?_
  intro p e s m below meth c C hr hnm
  have C : zC D n0 p s m meth c b_S_init 1 "LayerVault$Segment" := C
  have hnm : meth.name = "<init>" := hnm
  refine z_eqL (L' := [some (zv n0 a0)]) rfl ?_
  unfold f_S_init at hf
  refine z_aload_n C d_S_init_0 rfl (z_pc (pc' := 1) rfl ?_)
  refine z_objInit C h0 kj_S_3 kj_inst kj_code ⟨(Nat.le_of_ble_eq_true rfl), (Nat.le_of_ble_eq_true rfl)⟩ (Nat.le_of_ble_eq_true rfl) d_S_init_1 (z_pc (pc' := 4) rfl ?_)
  refine z_aload_n C d_S_init_4 rfl (z_pc (pc' := 5) rfl ?_)
  refine z_bipush C d_S_init_5 (by decide) (z_pc (pc' := 7) rfl ?_)
  obtain ⟨x1, M3, h2, hf⟩ := zb2_inv hf
  refine z_newI C (by decide) ka_int h2 (Nat.le_of_ble_eq_true rfl) (Nat.le_of_ble_eq_true rfl) d_S_init_7 (z_pc (pc' := 9) rfl ?_)
  obtain ⟨M4, h5, hf⟩ := zbind hf
  refine z_putfr C hnm ff_S_9 rfl (by decide) rfl h5 d_S_init_9 (z_pc (pc' := 12) rfl ?_)
  refine z_aload_n C d_S_init_12 rfl (z_pc (pc' := 13) rfl ?_)
  refine z_bipush C d_S_init_13 (by decide) (z_pc (pc' := 15) rfl ?_)
  obtain ⟨x6, M8, h7, hf⟩ := zb2_inv hf
  refine z_newI C (by decide) ka_int h7 (Nat.le_of_ble_eq_true rfl) (Nat.le_of_ble_eq_true rfl) d_S_init_15 (z_pc (pc' := 17) rfl ?_)
  obtain ⟨M9, h10, hf⟩ := zbind hf
  refine z_putfr C hnm ff_S_15 rfl (by decide) rfl h10 d_S_init_17 (z_pc (pc' := 20) rfl ?_)
  refine z_aload_n C d_S_init_20 rfl (z_pc (pc' := 21) rfl ?_)
  refine z_bipush C d_S_init_21 (by decide) (z_pc (pc' := 23) rfl ?_)
  obtain ⟨x11, M13, h12, hf⟩ := zb2_inv hf
  refine z_newI C (by decide) ka_int h12 (Nat.le_of_ble_eq_true rfl) (Nat.le_of_ble_eq_true rfl) d_S_init_23 (z_pc (pc' := 25) rfl ?_)
  obtain ⟨M14, h15, hf⟩ := zbind hf
  refine z_putfr C hnm ff_S_18 rfl (by decide) rfl h15 d_S_init_25 (z_pc (pc' := 28) rfl ?_)
  exact z_vret C hr (Nat.le_of_ble_eq_true rfl) (Nat.le_of_ble_eq_true rfl) d_S_init_28 hf
theorem e_S_begin {a0 : Nat} {a1 : Int} {M : zHp} {q : zHp} (hf : f_S_begin a0 a1 M = some q) : zk M a0 = 2 := by
  unfold f_S_begin at hf
  exact (zif hf).1
set_option maxHeartbeats 4000000 in
set_option maxRecDepth 100000 in
theorem c_S_begin (D : va_G) (n0 : Nat) (l : Launch) {a0 : Nat} {a1 : Int} {M : zHp} {M' : zHp} (hf : f_S_begin a0 a1 M = some M') : zM D n0 l y_S_begin b_S_begin 2 none 0 0 0 0 [zv n0 a0, zi a1] M none M' := by
  refine zM.ofZ (by decide) (zcr (zci zcn)) (Nat.le_of_ble_eq_true rfl) ?_
  intro p e s m below meth c C hr hnm
  have C : zC D n0 p s m meth c b_S_begin 2 "LayerVault$Segment" := C
  refine z_eqL (L' := [some (zv n0 a0), some (zi a1)]) rfl ?_
  unfold f_S_begin at hf
  have hf := (zif hf).2
  refine z_aload_n C d_S_begin_0 rfl (z_pc (pc' := 1) rfl ?_)
  refine z_iload_n C d_S_begin_1 rfl (z_pc (pc' := 2) rfl ?_)
  obtain ⟨M1, h2, hf⟩ := zbind hf
  refine z_puti C fp_S_21 (by decide) rfl h2 d_S_begin_2 (z_pc (pc' := 5) rfl ?_)
  refine z_aload_n C d_S_begin_5 rfl (z_pc (pc' := 6) rfl ?_)
  refine z_iconst C d_S_begin_6 (z_pc (pc' := 7) rfl ?_)
  obtain ⟨M3, h4, hf⟩ := zbind hf
  refine z_puti C fp_S_25 (by decide) rfl h4 d_S_begin_7 (z_pc (pc' := 10) rfl ?_)
  refine z_aload_n C d_S_begin_10 rfl (z_pc (pc' := 11) rfl ?_)
  refine z_iconst C d_S_begin_11 (z_pc (pc' := 12) rfl ?_)
  obtain ⟨M5, h6, hf⟩ := zbind hf
  refine z_puti C fp_S_28 (by decide) rfl h6 d_S_begin_12 (z_pc (pc' := 15) rfl ?_)
  refine z_aload_n C d_S_begin_15 rfl (z_pc (pc' := 16) rfl ?_)
  refine z_null C d_S_begin_16 (z_pc (pc' := 17) rfl ?_)
  obtain ⟨M7, h8, hf⟩ := zbind hf
  refine z_putr C fp_S_31 rfl (by decide) rfl h8 d_S_begin_17 (z_pc (pc' := 20) rfl ?_)
  exact z_vret C hr (Nat.le_of_ble_eq_true rfl) (Nat.le_of_ble_eq_true rfl) d_S_begin_20 hf
theorem e_S_write {a0 : Nat} {a1 : Int} {a2 : Int} {a3 : Int} {M : zHp} {q : Int × zHp} (hf : f_S_write a0 a1 a2 a3 M = some q) : zk M a0 = 2 := by
  unfold f_S_write at hf
  exact (zif hf).1
set_option maxHeartbeats 4000000 in
set_option maxRecDepth 100000 in
theorem c_S_write (D : va_G) (n0 : Nat) (l : Launch) {a0 : Nat} {a1 : Int} {a2 : Int} {a3 : Int} {M : zHp} {r : Int} {M' : zHp} (hf : f_S_write a0 a1 a2 a3 M = some (r, M')) : zM D n0 l y_S_write b_S_write 4 (some .int) 0 0 0 0 [zv n0 a0, zi a1, zi a2, zi a3] M (some (zi r)) M' := by
  refine zM.ofZ (by decide) (zcr (zci (zci (zci zcn)))) (Nat.le_of_ble_eq_true rfl) ?_
  intro p e s m below meth c C hr hnm
  have C : zC D n0 p s m meth c b_S_write 4 "LayerVault$Segment" := C
  refine z_eqL (L' := [some (zv n0 a0), some (zi a1), some (zi a2), some (zi a3)]) rfl ?_
  unfold f_S_write at hf
  have hf := (zif hf).2
  refine z_aload_n C d_S_write_0 rfl (z_pc (pc' := 1) rfl ?_)
  obtain ⟨x1, h2, hf⟩ := zbind hf
  refine z_getr C fl_S_9 rfl h2 d_S_write_1 (z_pc (pc' := 4) rfl ?_)
  refine z_aload_n C d_S_write_4 rfl (z_pc (pc' := 5) rfl ?_)
  obtain ⟨x3, h4, hf⟩ := zbind hf
  refine z_geti C fl_S_25 h4 d_S_write_5 (z_pc (pc' := 8) rfl ?_)
  refine z_iload_n C d_S_write_8 rfl (z_pc (pc' := 9) rfl ?_)
  obtain ⟨M5, h6, hf⟩ := zbind hf
  refine z_iast C h6 d_S_write_9 (z_pc (pc' := 10) rfl ?_)
  refine z_aload_n C d_S_write_10 rfl (z_pc (pc' := 11) rfl ?_)
  obtain ⟨x7, h8, hf⟩ := zbind hf
  refine z_getr C fl_S_15 rfl h8 d_S_write_11 (z_pc (pc' := 14) rfl ?_)
  refine z_aload_n C d_S_write_14 rfl (z_pc (pc' := 15) rfl ?_)
  obtain ⟨x9, h10, hf⟩ := zbind hf
  refine z_geti C fl_S_25 h10 d_S_write_15 (z_pc (pc' := 18) rfl ?_)
  refine z_iload_n C d_S_write_18 rfl (z_pc (pc' := 19) rfl ?_)
  obtain ⟨M11, h12, hf⟩ := zbind hf
  refine z_iast C h12 d_S_write_19 (z_pc (pc' := 20) rfl ?_)
  refine z_aload_n C d_S_write_20 rfl (z_pc (pc' := 21) rfl ?_)
  obtain ⟨x13, h14, hf⟩ := zbind hf
  refine z_getr C fl_S_18 rfl h14 d_S_write_21 (z_pc (pc' := 24) rfl ?_)
  refine z_aload_n C d_S_write_24 rfl (z_pc (pc' := 25) rfl ?_)
  obtain ⟨x15, h16, hf⟩ := zbind hf
  refine z_geti C fl_S_25 h16 d_S_write_25 (z_pc (pc' := 28) rfl ?_)
  refine z_iload_n C d_S_write_28 rfl (z_pc (pc' := 29) rfl ?_)
  obtain ⟨M17, h18, hf⟩ := zbind hf
  refine z_iast C h18 d_S_write_29 (z_pc (pc' := 30) rfl ?_)
  refine z_aload_n C d_S_write_30 rfl (z_pc (pc' := 31) rfl ?_)
  refine z_dupr C d_S_write_31 (z_pc (pc' := 32) rfl ?_)
  obtain ⟨x19, h20, hf⟩ := zbind hf
  refine z_geti C fl_S_25 h20 d_S_write_32 (z_pc (pc' := 35) rfl ?_)
  refine z_iconst C d_S_write_35 (z_pc (pc' := 36) rfl ?_)
  refine z_iadd C d_S_write_36 (z_pc (pc' := 37) rfl ?_)
  obtain ⟨M21, h22, hf⟩ := zbind hf
  refine z_puti C fp_S_25 (by decide) rfl h22 d_S_write_37 (z_pc (pc' := 40) rfl ?_)
  refine z_aload_n C d_S_write_40 rfl (z_pc (pc' := 41) rfl ?_)
  obtain ⟨x23, h24, hf⟩ := zbind hf
  refine z_geti C fl_S_25 h24 d_S_write_41 (z_pc (pc' := 44) rfl ?_)
  refine z_iconst C d_S_write_44 (z_pc (pc' := 45) rfl ?_)
  refine z_isub C d_S_write_45 (z_pc (pc' := 46) rfl ?_)
  exact z_iret C hr (Nat.le_of_ble_eq_true rfl) (Nat.le_of_ble_eq_true rfl) d_S_write_46 hf
set_option maxHeartbeats 4000000 in
set_option maxRecDepth 100000 in
theorem c_Mt_init (D : va_G) (n0 : Nat) (l : Launch) {a0 : Nat} {M : zHp} {M' : zHp} (h0 : 0 < a0) (hf : f_Mt_init a0 M = some M') : zM D n0 l y_Mt_init b_Mt_init 1 none 2 40 2 10 [zv n0 a0] M none M' := by
  refine zM.ofZ (by decide) (zcr zcn) (Nat.le_of_ble_eq_true rfl) ?_
  intro p e s m below meth c C hr hnm
  have C : zC D n0 p s m meth c b_Mt_init 1 "LayerVault$Memtable" := C
  have hnm : meth.name = "<init>" := hnm
  refine z_eqL (L' := [some (zv n0 a0)]) rfl ?_
  unfold f_Mt_init at hf
  refine z_aload_n C d_Mt_init_0 rfl (z_pc (pc' := 1) rfl ?_)
  refine z_objInit C h0 kj_Mt_3 kj_inst kj_code ⟨(Nat.le_of_ble_eq_true rfl), (Nat.le_of_ble_eq_true rfl)⟩ (Nat.le_of_ble_eq_true rfl) d_Mt_init_1 (z_pc (pc' := 4) rfl ?_)
  refine z_aload_n C d_Mt_init_4 rfl (z_pc (pc' := 5) rfl ?_)
  obtain ⟨x1, M4, h2, hf⟩ := zb2_inv hf
  refine z_newO C (ci := 1) 7 rfl rfl kl_Mt_9 kn_E kt_E h2 (Nat.le_of_ble_eq_true rfl) (Nat.le_of_ble_eq_true rfl) d_Mt_init_5 (fun g3 => (z_pc (pc' := 8) rfl ?_))
  refine z_dupr C d_Mt_init_8 (z_pc (pc' := 9) rfl ?_)
  obtain ⟨M6, h5, hf⟩ := zbind hf
  refine z_callI C [] [zv n0 x1, zv n0 a0] g3 ki_Mt_11 (c_E_init D n0 l g3 h5) ⟨(Nat.le_of_ble_eq_true rfl), (Nat.le_of_ble_eq_true rfl)⟩ (Nat.le_of_ble_eq_true rfl) ⟨(Nat.le_of_ble_eq_true rfl), (Nat.le_of_ble_eq_true rfl)⟩ d_Mt_init_9 (z_pc (pc' := 12) rfl ?_)
  obtain ⟨M7, h8, hf⟩ := zbind hf
  refine z_putfr C hnm ff_Mt_12 rfl (by decide) rfl h8 d_Mt_init_12 (z_pc (pc' := 15) rfl ?_)
  exact z_vret C hr (Nat.le_of_ble_eq_true rfl) (Nat.le_of_ble_eq_true rfl) d_Mt_init_15 hf
set_option maxHeartbeats 4000000 in
set_option maxRecDepth 100000 in
theorem w_Mt_last_L13 {D : va_G} {n0 : Nat} {l : Launch} {p : Program} {e : Env} {s : State} {m : MethodId} {args : Array Value} {below : List Frame} {meth : Method} {c : Code} {a1 : Int} {a2 : Int} {a4 : Int} {r : Nat} {M' : zHp} {κ : Nat → zHp → Option (Nat × zHp)} (C : zC D n0 p s m meth c b_Mt_last 5 "LayerVault$Memtable") (hr : meth.sig.returnType = (some (.object "LayerVault$Entry")))
    (hκ : ∀ (u3 : Nat) (M1 : zHp), κ u3 M1 = some (r, M') → zZ D n0 p l e { frames := 1, cells := 0, slots := 0, locals := 22 } s m args below meth c 5 0 0 (MQ below (zQc D n0 (some (zv n0 r)) M') args s 0 0 (fun q => n0 ≤ q)) 49 [none, some (zi a1), some (zi a2), some (zv n0 u3), some (zi a4)] [] M1) :
    ∀ (n : Nat) (v3 : Nat) (M : zHp), f_Mt_last_L13 κ a1 a2 a4 n v3 M = some (r, M') → zZ D n0 p l e { frames := 1, cells := 0, slots := 0, locals := 22 } s m args below meth c 5 0 0 (MQ below (zQc D n0 (some (zv n0 r)) M') args s 0 0 (fun q => n0 ≤ q)) 13 [none, some (zi a1), some (zi a2), some (zv n0 v3), some (zi a4)] [] M := by
  intro n
  induction n with
  | zero =>
    intro v3 M hf
    exact absurd hf (by unfold f_Mt_last_L13; simp)
  | succ n ih =>
    intro v3 M hf
    unfold f_Mt_last_L13 at hf
    refine z_aload_n C d_Mt_last_13 rfl (z_pc (pc' := 14) rfl ?_)
    obtain ⟨x4, h5, hf⟩ := zbind hf
    refine z_getr C fl_Mt_18 rfl h5 d_Mt_last_14 (z_pc (pc' := 17) rfl ?_)
    refine z_iload C d_Mt_last_17 rfl (z_pc (pc' := 19) rfl ?_)
    obtain ⟨x6, h7, hf⟩ := zbind hf
    refine z_aald C (by decide) h7 d_Mt_last_19 (z_pc (pc' := 20) rfl ?_)
    refine z_ifnull (tgt := 49) C d_Mt_last_20 (by decide) (fun c8 => ?_) (fun c8 => (z_pc (pc' := 23) rfl ?_))
    · have hf := zpos c8 hf
      exact z_sub2 (hκ _ _ hf) (And.intro rfl (And.intro rfl (And.intro rfl (And.intro rfl trivial))))
    · have hf := zneg c8 hf
      refine z_aload_n C d_Mt_last_23 rfl (z_pc (pc' := 24) rfl ?_)
      obtain ⟨x9, h10, hf⟩ := zbind hf
      refine z_getr C fl_Mt_18 rfl h10 d_Mt_last_24 (z_pc (pc' := 27) rfl ?_)
      refine z_iload C d_Mt_last_27 rfl (z_pc (pc' := 29) rfl ?_)
      obtain ⟨x11, h12, hf⟩ := zbind hf
      refine z_aald C (by decide) h12 d_Mt_last_29 (z_pc (pc' := 30) rfl ?_)
      refine z_iload_n C d_Mt_last_30 rfl (z_pc (pc' := 31) rfl ?_)
      refine z_iload_n C d_Mt_last_31 rfl (z_pc (pc' := 32) rfl ?_)
      obtain ⟨x15, M14, h13, hf⟩ := zb2_inv hf
      refine z_callV C [zi a1, zi a2] [] kv_Mt_22 (c_E_before D n0 l h13) (e_E_before h13) ⟨(Nat.le_of_ble_eq_true rfl), (Nat.le_of_ble_eq_true rfl)⟩ (Nat.le_of_ble_eq_true rfl) ⟨(Nat.le_of_ble_eq_true rfl), (Nat.le_of_ble_eq_true rfl)⟩ d_Mt_last_32 (z_pc (pc' := 35) rfl ?_)
      refine z_if_eq (tgt := 49) C d_Mt_last_35 (by decide) (fun c16 => ?_) (fun c16 => z_pc (pc' := 38) rfl ?_)
      · have hf := zpos c16 hf
        exact z_sub2 (hκ _ _ hf) (And.intro rfl (And.intro rfl (And.intro rfl (And.intro rfl trivial))))
      · have hf := zneg c16 hf
        refine z_aload_n C d_Mt_last_38 rfl (z_pc (pc' := 39) rfl ?_)
        obtain ⟨x17, h18, hf⟩ := zbind hf
        refine z_getr C fl_Mt_18 rfl h18 d_Mt_last_39 (z_pc (pc' := 42) rfl ?_)
        refine z_iload C d_Mt_last_42 rfl (z_pc (pc' := 44) rfl ?_)
        obtain ⟨x19, h20, hf⟩ := zbind hf
        refine z_aald C (by decide) h20 d_Mt_last_44 (z_pc (pc' := 45) rfl ?_)
        refine z_astore_n C d_Mt_last_45 (by decide) (z_pl (pc' := 46) (L' := [none, some (zi a1), some (zi a2), some (zv n0 x19), some (zi a4)]) rfl rfl ?_)
        refine z_goto (tgt := 13) C d_Mt_last_46 (by decide) ?_
        exact z_sub2 (ih _ _ hf) (And.intro rfl (And.intro rfl (And.intro rfl (And.intro rfl trivial))))
set_option maxHeartbeats 4000000 in
set_option maxRecDepth 100000 in
theorem w_Mt_last_L8 {D : va_G} {n0 : Nat} {l : Launch} {p : Program} {e : Env} {s : State} {m : MethodId} {args : Array Value} {below : List Frame} {meth : Method} {c : Code} {a1 : Int} {a2 : Int} {r : Nat} {M' : zHp} {κ : Nat → zHp → Option (Nat × zHp)} (C : zC D n0 p s m meth c b_Mt_last 5 "LayerVault$Memtable") (hr : meth.sig.returnType = (some (.object "LayerVault$Entry")))
    (hκ : ∀ (u3 : Nat) (M1 : zHp), κ u3 M1 = some (r, M') → zZ D n0 p l e { frames := 1, cells := 0, slots := 0, locals := 22 } s m args below meth c 5 0 0 (MQ below (zQc D n0 (some (zv n0 r)) M') args s 0 0 (fun q => n0 ≤ q)) 55 [none, none, none, some (zv n0 u3), none] [] M1) :
    ∀ (n : Nat) (v3 : Nat) (v4 : Int) (M : zHp), f_Mt_last_L8 κ a1 a2 n v3 v4 M = some (r, M') → zZ D n0 p l e { frames := 1, cells := 0, slots := 0, locals := 22 } s m args below meth c 5 0 0 (MQ below (zQc D n0 (some (zv n0 r)) M') args s 0 0 (fun q => n0 ≤ q)) 8 [none, some (zi a1), some (zi a2), some (zv n0 v3), some (zi v4)] [] M := by
  intro n
  induction n with
  | zero =>
    intro v3 v4 M hf
    exact absurd hf (by unfold f_Mt_last_L8; simp)
  | succ n ih =>
    intro v3 v4 M hf
    unfold f_Mt_last_L8 at hf
    refine z_iload C d_Mt_last_8 rfl (z_pc (pc' := 10) rfl ?_)
    refine z_if_lt (tgt := 55) C d_Mt_last_10 (by decide) (fun c3 => ?_) (fun c3 => z_pc (pc' := 13) rfl ?_)
    · have hf := zpos c3 hf
      exact z_sub2 (hκ _ _ hf) (And.intro rfl trivial)
    · have hf := zneg c3 hf
      refine z_sub2 (w_Mt_last_L13 C hr ?_ _ _ _ hf) (And.intro rfl (And.intro rfl (And.intro rfl (And.intro rfl trivial))))
      intro v21 M22 hf
      refine z_iinc C d_Mt_last_49 rfl (by decide) (z_pl (pc' := 52) (L' := [none, some (zi a1), some (zi a2), some (zv n0 v21), some (zi (zadd v4 (-1)))]) rfl rfl ?_)
      refine z_goto (tgt := 8) C d_Mt_last_52 (by decide) ?_
      exact z_sub2 (ih _ _ _ hf) (And.intro rfl (And.intro rfl (And.intro rfl (And.intro rfl trivial))))
theorem e_Mt_last {a0 : Nat} {a1 : Int} {a2 : Int} {M : zHp} {q : Nat × zHp} (hf : f_Mt_last a0 a1 a2 M = some q) : zk M a0 = 3 := by
  unfold f_Mt_last at hf
  exact (zif hf).1
set_option maxHeartbeats 4000000 in
set_option maxRecDepth 100000 in
theorem c_Mt_last (D : va_G) (n0 : Nat) (l : Launch) {a0 : Nat} {a1 : Int} {a2 : Int} {M : zHp} {r : Nat} {M' : zHp} (hf : f_Mt_last a0 a1 a2 M = some (r, M')) : zM D n0 l y_Mt_last b_Mt_last 5 (some (.object "LayerVault$Entry")) 1 22 0 0 [zv n0 a0, zi a1, zi a2] M (some (zv n0 r)) M' := by
  refine zM.ofZ (by decide) (zcr (zci (zci zcn))) (Nat.le_of_ble_eq_true rfl) ?_
  intro p e s m below meth c C hr hnm
  have C : zC D n0 p s m meth c b_Mt_last 5 "LayerVault$Memtable" := C
  refine z_eqL (L' := [some (zv n0 a0), some (zi a1), some (zi a2), none, none]) rfl ?_
  unfold f_Mt_last at hf
  have hf := (zif hf).2
  refine z_aload_n C d_Mt_last_0 rfl (z_pc (pc' := 1) rfl ?_)
  obtain ⟨x1, h2, hf⟩ := zbind hf
  refine z_getr C fl_Mt_12 rfl h2 d_Mt_last_1 (z_pc (pc' := 4) rfl ?_)
  refine z_astore_n C d_Mt_last_4 (by decide) (z_pl (pc' := 5) (L' := [some (zv n0 a0), some (zi a1), some (zi a2), some (zv n0 x1), none]) rfl rfl ?_)
  refine z_iconst C d_Mt_last_5 (z_pc (pc' := 6) rfl ?_)
  refine z_istore C d_Mt_last_6 (by decide) (z_pl (pc' := 8) (L' := [some (zv n0 a0), some (zi a1), some (zi a2), some (zv n0 x1), some (zi 2)]) rfl rfl ?_)
  refine z_sub2 (w_Mt_last_L8 C hr ?_ _ _ _ _ hf) (And.intro rfl (And.intro rfl (And.intro rfl (And.intro rfl trivial))))
  intro v23 M24 hf
  refine z_aload_n C d_Mt_last_55 rfl (z_pc (pc' := 56) rfl ?_)
  exact z_aret C hr (Or.inl ⟨_, rfl⟩) (Nat.le_of_ble_eq_true rfl) (Nat.le_of_ble_eq_true rfl) d_Mt_last_56 hf
set_option maxHeartbeats 4000000 in
set_option maxRecDepth 100000 in
theorem w_Mt_insert_L11 {D : va_G} {n0 : Nat} {l : Launch} {p : Program} {e : Env} {s : State} {m : MethodId} {args : Array Value} {below : List Frame} {meth : Method} {c : Code} {a0 : Nat} {a1 : Nat} {a3 : Int} {M' : zHp} {κ : Nat → zHp → Option (zHp)} (C : zC D n0 p s m meth c b_Mt_insert 5 "LayerVault$Memtable") (hr : meth.sig.returnType = none)
    (hκ : ∀ (u2 : Nat) (M1 : zHp), κ u2 M1 = some M' → zZ D n0 p l e { frames := 1, cells := 0, slots := 0, locals := 22 } s m args below meth c 5 0 0 (MQ below (zQc D n0 none M') args s 0 0 (fun q => n0 ≤ q)) 50 [some (zv n0 a0), some (zv n0 a1), some (zv n0 u2), some (zi a3), none] [] M1) :
    ∀ (n : Nat) (v2 : Nat) (M : zHp), f_Mt_insert_L11 κ a1 a3 n v2 M = some M' → zZ D n0 p l e { frames := 1, cells := 0, slots := 0, locals := 22 } s m args below meth c 5 0 0 (MQ below (zQc D n0 none M') args s 0 0 (fun q => n0 ≤ q)) 11 [some (zv n0 a0), some (zv n0 a1), some (zv n0 v2), some (zi a3), none] [] M := by
  intro n
  induction n with
  | zero =>
    intro v2 M hf
    exact absurd hf (by unfold f_Mt_insert_L11; simp)
  | succ n ih =>
    intro v2 M hf
    unfold f_Mt_insert_L11 at hf
    refine z_aload_n C d_Mt_insert_11 rfl (z_pc (pc' := 12) rfl ?_)
    obtain ⟨x4, h5, hf⟩ := zbind hf
    refine z_getr C fl_Mt_18 rfl h5 d_Mt_insert_12 (z_pc (pc' := 15) rfl ?_)
    refine z_iload_n C d_Mt_insert_15 rfl (z_pc (pc' := 16) rfl ?_)
    obtain ⟨x6, h7, hf⟩ := zbind hf
    refine z_aald C (by decide) h7 d_Mt_insert_16 (z_pc (pc' := 17) rfl ?_)
    refine z_ifnull (tgt := 50) C d_Mt_insert_17 (by decide) (fun c8 => ?_) (fun c8 => (z_pc (pc' := 20) rfl ?_))
    · have hf := zpos c8 hf
      exact z_sub2 (hκ _ _ hf) (And.intro rfl (And.intro rfl (And.intro rfl (And.intro rfl trivial))))
    · have hf := zneg c8 hf
      refine z_aload_n C d_Mt_insert_20 rfl (z_pc (pc' := 21) rfl ?_)
      obtain ⟨x9, h10, hf⟩ := zbind hf
      refine z_getr C fl_Mt_18 rfl h10 d_Mt_insert_21 (z_pc (pc' := 24) rfl ?_)
      refine z_iload_n C d_Mt_insert_24 rfl (z_pc (pc' := 25) rfl ?_)
      obtain ⟨x11, h12, hf⟩ := zbind hf
      refine z_aald C (by decide) h12 d_Mt_insert_25 (z_pc (pc' := 26) rfl ?_)
      refine z_aload_n C d_Mt_insert_26 rfl (z_pc (pc' := 27) rfl ?_)
      obtain ⟨x13, h14, hf⟩ := zbind hf
      refine z_geti C fl_Mt_26 h14 d_Mt_insert_27 (z_pc (pc' := 30) rfl ?_)
      refine z_aload_n C d_Mt_insert_30 rfl (z_pc (pc' := 31) rfl ?_)
      obtain ⟨x15, h16, hf⟩ := zbind hf
      refine z_geti C fl_Mt_30 h16 d_Mt_insert_31 (z_pc (pc' := 34) rfl ?_)
      obtain ⟨x19, M18, h17, hf⟩ := zb2_inv hf
      refine z_callV C [zi x13, zi x15] [] kv_Mt_22 (c_E_before D n0 l h17) (e_E_before h17) ⟨(Nat.le_of_ble_eq_true rfl), (Nat.le_of_ble_eq_true rfl)⟩ (Nat.le_of_ble_eq_true rfl) ⟨(Nat.le_of_ble_eq_true rfl), (Nat.le_of_ble_eq_true rfl)⟩ d_Mt_insert_34 (z_pc (pc' := 37) rfl ?_)
      refine z_if_eq (tgt := 50) C d_Mt_insert_37 (by decide) (fun c20 => ?_) (fun c20 => z_pc (pc' := 40) rfl ?_)
      · have hf := zpos c20 hf
        exact z_sub2 (hκ _ _ hf) (And.intro rfl (And.intro rfl (And.intro rfl (And.intro rfl trivial))))
      · have hf := zneg c20 hf
        refine z_aload_n C d_Mt_insert_40 rfl (z_pc (pc' := 41) rfl ?_)
        obtain ⟨x21, h22, hf⟩ := zbind hf
        refine z_getr C fl_Mt_18 rfl h22 d_Mt_insert_41 (z_pc (pc' := 44) rfl ?_)
        refine z_iload_n C d_Mt_insert_44 rfl (z_pc (pc' := 45) rfl ?_)
        obtain ⟨x23, h24, hf⟩ := zbind hf
        refine z_aald C (by decide) h24 d_Mt_insert_45 (z_pc (pc' := 46) rfl ?_)
        refine z_astore_n C d_Mt_insert_46 (by decide) (z_pl (pc' := 47) (L' := [some (zv n0 a0), some (zv n0 a1), some (zv n0 x23), some (zi a3), none]) rfl rfl ?_)
        refine z_goto (tgt := 11) C d_Mt_insert_47 (by decide) ?_
        exact z_sub2 (ih _ _ hf) (And.intro rfl (And.intro rfl (And.intro rfl (And.intro rfl trivial))))
set_option maxHeartbeats 4000000 in
set_option maxRecDepth 100000 in
theorem w_Mt_insert_L7 {D : va_G} {n0 : Nat} {l : Launch} {p : Program} {e : Env} {s : State} {m : MethodId} {args : Array Value} {below : List Frame} {meth : Method} {c : Code} {a0 : Nat} {a1 : Nat} {M' : zHp} {κ : zHp → Option (zHp)} (C : zC D n0 p s m meth c b_Mt_insert 5 "LayerVault$Memtable") (hr : meth.sig.returnType = none)
    (hκ : ∀ (M1 : zHp), κ M1 = some M' → zZ D n0 p l e { frames := 1, cells := 0, slots := 0, locals := 22 } s m args below meth c 5 0 0 (MQ below (zQc D n0 none M') args s 0 0 (fun q => n0 ≤ q)) 107 [some (zv n0 a0), none, none, none, none] [] M1) :
    ∀ (n : Nat) (v2 : Nat) (v3 : Int) (M : zHp), f_Mt_insert_L7 κ a1 n v2 v3 M = some M' → zZ D n0 p l e { frames := 1, cells := 0, slots := 0, locals := 22 } s m args below meth c 5 0 0 (MQ below (zQc D n0 none M') args s 0 0 (fun q => n0 ≤ q)) 7 [some (zv n0 a0), some (zv n0 a1), some (zv n0 v2), some (zi v3), none] [] M := by
  intro n
  induction n with
  | zero =>
    intro v2 v3 M hf
    exact absurd hf (by unfold f_Mt_insert_L7; simp)
  | succ n ih =>
    intro v2 v3 M hf
    unfold f_Mt_insert_L7 at hf
    refine z_iload_n C d_Mt_insert_7 rfl (z_pc (pc' := 8) rfl ?_)
    refine z_if_lt (tgt := 107) C d_Mt_insert_8 (by decide) (fun c3 => ?_) (fun c3 => z_pc (pc' := 11) rfl ?_)
    · have hf := zpos c3 hf
      exact z_sub2 (hκ _ hf) (And.intro rfl trivial)
    · have hf := zneg c3 hf
      refine z_sub2 (w_Mt_insert_L11 C hr ?_ _ _ _ hf) (And.intro rfl (And.intro rfl (And.intro rfl (And.intro rfl trivial))))
      intro v25 M26 hf
      refine z_aload_n C d_Mt_insert_50 rfl (z_pc (pc' := 51) rfl ?_)
      obtain ⟨x27, h28, hf⟩ := zbind hf
      refine z_geti C fl_Mt_30 h28 d_Mt_insert_51 (z_pc (pc' := 54) rfl ?_)
      refine z_iconst C d_Mt_insert_54 (z_pc (pc' := 55) rfl ?_)
      refine z_iload_n C d_Mt_insert_55 rfl (z_pc (pc' := 56) rfl ?_)
      refine z_ishl C d_Mt_insert_56 (z_pc (pc' := 57) rfl ?_)
      obtain ⟨h50, hf⟩ := zifn hf
      refine z_irem C h50 d_Mt_insert_57 (z_pc (pc' := 58) rfl ?_)
      refine z_if_ne (tgt := 65) C d_Mt_insert_58 (by decide) (fun c29 => ?_) (fun c29 => z_pc (pc' := 61) rfl ?_)
      · have hf := zneg c29 hf
        refine z_iconst C d_Mt_insert_65 (z_pc (pc' := 66) rfl ?_)
        refine z_istore C d_Mt_insert_66 (by decide) (z_pl (pc' := 68) (L' := [some (zv n0 a0), some (zv n0 a1), some (zv n0 v25), some (zi v3), some (zi 0)]) rfl rfl ?_)
        refine z_aload_n C d_Mt_insert_68 rfl (z_pc (pc' := 69) rfl ?_)
        obtain ⟨x30, h31, hf⟩ := zbind hf
        refine z_getr C fl_Mt_18 rfl h31 d_Mt_insert_69 (z_pc (pc' := 72) rfl ?_)
        refine z_iload_n C d_Mt_insert_72 rfl (z_pc (pc' := 73) rfl ?_)
        refine z_iload C d_Mt_insert_73 rfl (z_pc (pc' := 75) rfl ?_)
        refine z_if_eq (tgt := 87) C d_Mt_insert_75 (by decide) (fun _ => ?_) (fun c32 => absurd c32 (by decide))
        refine z_null C d_Mt_insert_87 (z_pc (pc' := 88) rfl ?_)
        obtain ⟨M33, h34, hf⟩ := zbind hf
        refine z_aast C (by decide) h34 d_Mt_insert_88 (z_pc (pc' := 89) rfl ?_)
        refine z_iload C d_Mt_insert_89 rfl (z_pc (pc' := 91) rfl ?_)
        refine z_if_eq (tgt := 101) C d_Mt_insert_91 (by decide) (fun _ => ?_) (fun c35 => absurd c35 (by decide))
        refine z_iinc C d_Mt_insert_101 rfl (by decide) (z_pl (pc' := 104) (L' := [some (zv n0 a0), some (zv n0 a1), some (zv n0 v25), some (zi (zadd v3 (-1))), some (zi 0)]) rfl rfl ?_)
        refine z_goto (tgt := 7) C d_Mt_insert_104 (by decide) ?_
        exact z_sub2 (ih _ _ _ hf) (And.intro rfl (And.intro rfl (And.intro rfl (And.intro rfl trivial))))
      · have hf := zpos c29 hf
        refine z_iconst C d_Mt_insert_61 (z_pc (pc' := 62) rfl ?_)
        refine z_goto (tgt := 66) C d_Mt_insert_62 (by decide) ?_
        refine z_istore C d_Mt_insert_66 (by decide) (z_pl (pc' := 68) (L' := [some (zv n0 a0), some (zv n0 a1), some (zv n0 v25), some (zi v3), some (zi 1)]) rfl rfl ?_)
        refine z_aload_n C d_Mt_insert_68 rfl (z_pc (pc' := 69) rfl ?_)
        obtain ⟨x36, h37, hf⟩ := zbind hf
        refine z_getr C fl_Mt_18 rfl h37 d_Mt_insert_69 (z_pc (pc' := 72) rfl ?_)
        refine z_iload_n C d_Mt_insert_72 rfl (z_pc (pc' := 73) rfl ?_)
        refine z_iload C d_Mt_insert_73 rfl (z_pc (pc' := 75) rfl ?_)
        refine z_if_eq (tgt := 87) C d_Mt_insert_75 (by decide) (fun c38 => absurd c38 (by decide)) (fun _ => z_pc (pc' := 78) rfl ?_)
        refine z_aload_n C d_Mt_insert_78 rfl (z_pc (pc' := 79) rfl ?_)
        obtain ⟨x39, h40, hf⟩ := zbind hf
        refine z_getr C fl_Mt_18 rfl h40 d_Mt_insert_79 (z_pc (pc' := 82) rfl ?_)
        refine z_iload_n C d_Mt_insert_82 rfl (z_pc (pc' := 83) rfl ?_)
        obtain ⟨x41, h42, hf⟩ := zbind hf
        refine z_aald C (by decide) h42 d_Mt_insert_83 (z_pc (pc' := 84) rfl ?_)
        refine z_goto (tgt := 88) C d_Mt_insert_84 (by decide) ?_
        obtain ⟨M43, h44, hf⟩ := zbind hf
        refine z_aast C (by decide) h44 d_Mt_insert_88 (z_pc (pc' := 89) rfl ?_)
        refine z_iload C d_Mt_insert_89 rfl (z_pc (pc' := 91) rfl ?_)
        refine z_if_eq (tgt := 101) C d_Mt_insert_91 (by decide) (fun c45 => absurd c45 (by decide)) (fun _ => z_pc (pc' := 94) rfl ?_)
        refine z_aload_n C d_Mt_insert_94 rfl (z_pc (pc' := 95) rfl ?_)
        obtain ⟨x46, h47, hf⟩ := zbind hf
        refine z_getr C fl_Mt_18 rfl h47 d_Mt_insert_95 (z_pc (pc' := 98) rfl ?_)
        refine z_iload_n C d_Mt_insert_98 rfl (z_pc (pc' := 99) rfl ?_)
        refine z_aload_n C d_Mt_insert_99 rfl (z_pc (pc' := 100) rfl ?_)
        obtain ⟨M48, h49, hf⟩ := zbind hf
        refine z_aast C (by decide) h49 d_Mt_insert_100 (z_pc (pc' := 101) rfl ?_)
        refine z_iinc C d_Mt_insert_101 rfl (by decide) (z_pl (pc' := 104) (L' := [some (zv n0 a0), some (zv n0 a1), some (zv n0 v25), some (zi (zadd v3 (-1))), some (zi 1)]) rfl rfl ?_)
        refine z_goto (tgt := 7) C d_Mt_insert_104 (by decide) ?_
        exact z_sub2 (ih _ _ _ hf) (And.intro rfl (And.intro rfl (And.intro rfl (And.intro rfl trivial))))
theorem e_Mt_insert {a0 : Nat} {a1 : Nat} {M : zHp} {q : zHp} (hf : f_Mt_insert a0 a1 M = some q) : zk M a0 = 3 := by
  unfold f_Mt_insert at hf
  exact (zif hf).1
set_option maxHeartbeats 4000000 in
set_option maxRecDepth 100000 in
theorem c_Mt_insert (D : va_G) (n0 : Nat) (l : Launch) {a0 : Nat} {a1 : Nat} {M : zHp} {M' : zHp} (hf : f_Mt_insert a0 a1 M = some M') : zM D n0 l y_Mt_insert b_Mt_insert 5 none 1 22 0 0 [zv n0 a0, zv n0 a1] M none M' := by
  refine zM.ofZ (by decide) (zcr (zcr zcn)) (Nat.le_of_ble_eq_true rfl) ?_
  intro p e s m below meth c C hr hnm
  have C : zC D n0 p s m meth c b_Mt_insert 5 "LayerVault$Memtable" := C
  refine z_eqL (L' := [some (zv n0 a0), some (zv n0 a1), none, none, none]) rfl ?_
  unfold f_Mt_insert at hf
  have hf := (zif hf).2
  refine z_aload_n C d_Mt_insert_0 rfl (z_pc (pc' := 1) rfl ?_)
  obtain ⟨x1, h2, hf⟩ := zbind hf
  refine z_getr C fl_Mt_12 rfl h2 d_Mt_insert_1 (z_pc (pc' := 4) rfl ?_)
  refine z_astore_n C d_Mt_insert_4 (by decide) (z_pl (pc' := 5) (L' := [some (zv n0 a0), some (zv n0 a1), some (zv n0 x1), none, none]) rfl rfl ?_)
  refine z_iconst C d_Mt_insert_5 (z_pc (pc' := 6) rfl ?_)
  refine z_istore_n C d_Mt_insert_6 (by decide) (z_pl (pc' := 7) (L' := [some (zv n0 a0), some (zv n0 a1), some (zv n0 x1), some (zi 2), none]) rfl rfl ?_)
  refine z_sub2 (w_Mt_insert_L7 C hr ?_ _ _ _ _ hf) (And.intro rfl (And.intro rfl (And.intro rfl (And.intro rfl trivial))))
  intro M51 hf
  refine z_aload_n C d_Mt_insert_107 rfl (z_pc (pc' := 108) rfl ?_)
  refine z_dupr C d_Mt_insert_108 (z_pc (pc' := 109) rfl ?_)
  obtain ⟨x52, h53, hf⟩ := zbind hf
  refine z_geti C fl_Mt_33 h53 d_Mt_insert_109 (z_pc (pc' := 112) rfl ?_)
  refine z_iconst C d_Mt_insert_112 (z_pc (pc' := 113) rfl ?_)
  refine z_iadd C d_Mt_insert_113 (z_pc (pc' := 114) rfl ?_)
  obtain ⟨M54, h55, hf⟩ := zbind hf
  refine z_puti C fp_Mt_33 (by decide) rfl h55 d_Mt_insert_114 (z_pc (pc' := 117) rfl ?_)
  exact z_vret C hr (Nat.le_of_ble_eq_true rfl) (Nat.le_of_ble_eq_true rfl) d_Mt_insert_117 hf
theorem e_Mt_find {a0 : Nat} {a1 : Int} {a2 : Int} {M : zHp} {q : Nat × zHp} (hf : f_Mt_find a0 a1 a2 M = some q) : zk M a0 = 3 := by
  unfold f_Mt_find at hf
  exact (zif hf).1
set_option maxHeartbeats 4000000 in
set_option maxRecDepth 100000 in
theorem c_Mt_find (D : va_G) (n0 : Nat) (l : Launch) {a0 : Nat} {a1 : Int} {a2 : Int} {M : zHp} {r : Nat} {M' : zHp} (hf : f_Mt_find a0 a1 a2 M = some (r, M')) : zM D n0 l y_Mt_find b_Mt_find 4 (some (.object "LayerVault$Entry")) 2 46 0 0 [zv n0 a0, zi a1, zi a2] M (some (zv n0 r)) M' := by
  refine zM.ofZ (by decide) (zcr (zci (zci zcn))) (Nat.le_of_ble_eq_true rfl) ?_
  intro p e s m below meth c C hr hnm
  have C : zC D n0 p s m meth c b_Mt_find 4 "LayerVault$Memtable" := C
  refine z_eqL (L' := [some (zv n0 a0), some (zi a1), some (zi a2), none]) rfl ?_
  unfold f_Mt_find at hf
  have hf := (zif hf).2
  refine z_aload_n C d_Mt_find_0 rfl (z_pc (pc' := 1) rfl ?_)
  refine z_iload_n C d_Mt_find_1 rfl (z_pc (pc' := 2) rfl ?_)
  refine z_iload_n C d_Mt_find_2 rfl (z_pc (pc' := 3) rfl ?_)
  obtain ⟨x3, M2, h1, hf⟩ := zb2_inv hf
  refine z_callV C [zi a1, zi a2] [] kv_Mt_36 (c_Mt_last D n0 l h1) (e_Mt_last h1) ⟨(Nat.le_of_ble_eq_true rfl), (Nat.le_of_ble_eq_true rfl)⟩ (Nat.le_of_ble_eq_true rfl) ⟨(Nat.le_of_ble_eq_true rfl), (Nat.le_of_ble_eq_true rfl)⟩ d_Mt_find_3 (z_pc (pc' := 6) rfl ?_)
  obtain ⟨x4, h5, hf⟩ := zbind hf
  refine z_getr C fl_Mt_18 rfl h5 d_Mt_find_6 (z_pc (pc' := 9) rfl ?_)
  refine z_iconst C d_Mt_find_9 (z_pc (pc' := 10) rfl ?_)
  obtain ⟨x6, h7, hf⟩ := zbind hf
  refine z_aald C (by decide) h7 d_Mt_find_10 (z_pc (pc' := 11) rfl ?_)
  refine z_astore_n C d_Mt_find_11 (by decide) (z_pl (pc' := 12) (L' := [some (zv n0 a0), some (zi a1), some (zi a2), some (zv n0 x6)]) rfl rfl ?_)
  refine z_aload_n C d_Mt_find_12 rfl (z_pc (pc' := 13) rfl ?_)
  refine z_ifnull (tgt := 28) C d_Mt_find_13 (by decide) (fun c8 => ?_) (fun c8 => (z_pc (pc' := 16) rfl ?_))
  · have hf := zpos c8 hf
    refine z_null C d_Mt_find_28 (z_pc (pc' := 29) rfl ?_)
    exact z_aret C hr (Or.inl ⟨_, rfl⟩) (Nat.le_of_ble_eq_true rfl) (Nat.le_of_ble_eq_true rfl) d_Mt_find_29 hf
  · have hf := zneg c8 hf
    refine z_aload_n C d_Mt_find_16 rfl (z_pc (pc' := 17) rfl ?_)
    obtain ⟨x9, h10, hf⟩ := zbind hf
    refine z_geti C fl_Mt_26 h10 d_Mt_find_17 (z_pc (pc' := 20) rfl ?_)
    refine z_iload_n C d_Mt_find_20 rfl (z_pc (pc' := 21) rfl ?_)
    refine z_icmp_ne (tgt := 28) C d_Mt_find_21 (by decide) (fun c11 => ?_) (fun c11 => z_pc (pc' := 24) rfl ?_)
    · have hf := zneg c11 hf
      refine z_null C d_Mt_find_28 (z_pc (pc' := 29) rfl ?_)
      exact z_aret C hr (Or.inl ⟨_, rfl⟩) (Nat.le_of_ble_eq_true rfl) (Nat.le_of_ble_eq_true rfl) d_Mt_find_29 hf
    · have hf := zpos c11 hf
      refine z_aload_n C d_Mt_find_24 rfl (z_pc (pc' := 25) rfl ?_)
      refine z_goto (tgt := 29) C d_Mt_find_25 (by decide) ?_
      exact z_aret C hr (Or.inl ⟨_, rfl⟩) (Nat.le_of_ble_eq_true rfl) (Nat.le_of_ble_eq_true rfl) d_Mt_find_29 hf
set_option maxHeartbeats 4000000 in
set_option maxRecDepth 100000 in
theorem w_Mt_clear_L2 {D : va_G} {n0 : Nat} {l : Launch} {p : Program} {e : Env} {s : State} {m : MethodId} {args : Array Value} {below : List Frame} {meth : Method} {c : Code} {a0 : Nat} {M' : zHp} {κ : zHp → Option (zHp)} (C : zC D n0 p s m meth c b_Mt_clear 2 "LayerVault$Memtable") (hr : meth.sig.returnType = none)
    (hκ : ∀ (M1 : zHp), κ M1 = some M' → zZ D n0 p l e { frames := 0, cells := 0, slots := 0, locals := 0 } s m args below meth c 2 0 0 (MQ below (zQc D n0 none M') args s 0 0 (fun q => n0 ≤ q)) 23 [some (zv n0 a0), none] [] M1) :
    ∀ (n : Nat) (v1 : Int) (M : zHp), f_Mt_clear_L2 κ a0 n v1 M = some M' → zZ D n0 p l e { frames := 0, cells := 0, slots := 0, locals := 0 } s m args below meth c 2 0 0 (MQ below (zQc D n0 none M') args s 0 0 (fun q => n0 ≤ q)) 2 [some (zv n0 a0), some (zi v1)] [] M := by
  intro n
  induction n with
  | zero =>
    intro v1 M hf
    exact absurd hf (by unfold f_Mt_clear_L2; simp)
  | succ n ih =>
    intro v1 M hf
    unfold f_Mt_clear_L2 at hf
    refine z_iload_n C d_Mt_clear_2 rfl (z_pc (pc' := 3) rfl ?_)
    refine z_iconst C d_Mt_clear_3 (z_pc (pc' := 4) rfl ?_)
    refine z_icmp_ge (tgt := 23) C d_Mt_clear_4 (by decide) (fun c1 => ?_) (fun c1 => z_pc (pc' := 7) rfl ?_)
    · have hf := zpos c1 hf
      exact z_sub2 (hκ _ hf) (And.intro rfl trivial)
    · have hf := zneg c1 hf
      refine z_aload_n C d_Mt_clear_7 rfl (z_pc (pc' := 8) rfl ?_)
      obtain ⟨x2, h3, hf⟩ := zbind hf
      refine z_getr C fl_Mt_12 rfl h3 d_Mt_clear_8 (z_pc (pc' := 11) rfl ?_)
      obtain ⟨x4, h5, hf⟩ := zbind hf
      refine z_getr C fl_Mt_18 rfl h5 d_Mt_clear_11 (z_pc (pc' := 14) rfl ?_)
      refine z_iload_n C d_Mt_clear_14 rfl (z_pc (pc' := 15) rfl ?_)
      refine z_null C d_Mt_clear_15 (z_pc (pc' := 16) rfl ?_)
      obtain ⟨M6, h7, hf⟩ := zbind hf
      refine z_aast C (by decide) h7 d_Mt_clear_16 (z_pc (pc' := 17) rfl ?_)
      refine z_iinc C d_Mt_clear_17 rfl (by decide) (z_pl (pc' := 20) (L' := [some (zv n0 a0), some (zi (zadd v1 1))]) rfl rfl ?_)
      refine z_goto (tgt := 2) C d_Mt_clear_20 (by decide) ?_
      exact z_sub2 (ih _ _ hf) (And.intro rfl (And.intro rfl trivial))
theorem e_Mt_clear {a0 : Nat} {M : zHp} {q : zHp} (hf : f_Mt_clear a0 M = some q) : zk M a0 = 3 := by
  unfold f_Mt_clear at hf
  exact (zif hf).1
set_option maxHeartbeats 4000000 in
set_option maxRecDepth 100000 in
theorem c_Mt_clear (D : va_G) (n0 : Nat) (l : Launch) {a0 : Nat} {M : zHp} {M' : zHp} (hf : f_Mt_clear a0 M = some M') : zM D n0 l y_Mt_clear b_Mt_clear 2 none 0 0 0 0 [zv n0 a0] M none M' := by
  refine zM.ofZ (by decide) (zcr zcn) (Nat.le_of_ble_eq_true rfl) ?_
  intro p e s m below meth c C hr hnm
  have C : zC D n0 p s m meth c b_Mt_clear 2 "LayerVault$Memtable" := C
  refine z_eqL (L' := [some (zv n0 a0), none]) rfl ?_
  unfold f_Mt_clear at hf
  have hf := (zif hf).2
  refine z_iconst C d_Mt_clear_0 (z_pc (pc' := 1) rfl ?_)
  refine z_istore_n C d_Mt_clear_1 (by decide) (z_pl (pc' := 2) (L' := [some (zv n0 a0), some (zi 0)]) rfl rfl ?_)
  refine z_sub2 (w_Mt_clear_L2 C hr ?_ _ _ _ hf) (And.intro rfl (And.intro rfl trivial))
  intro M8 hf
  refine z_aload_n C d_Mt_clear_23 rfl (z_pc (pc' := 24) rfl ?_)
  refine z_iconst C d_Mt_clear_24 (z_pc (pc' := 25) rfl ?_)
  obtain ⟨M9, h10, hf⟩ := zbind hf
  refine z_puti C fp_Mt_33 (by decide) rfl h10 d_Mt_clear_25 (z_pc (pc' := 28) rfl ?_)
  exact z_vret C hr (Nat.le_of_ble_eq_true rfl) (Nat.le_of_ble_eq_true rfl) d_Mt_clear_28 hf
theorem e_Mt_begin {a0 : Nat} {a1 : Int} {M : zHp} {q : zHp} (hf : f_Mt_begin a0 a1 M = some q) : zk M a0 = 3 := by
  unfold f_Mt_begin at hf
  exact (zif hf).1
set_option maxHeartbeats 4000000 in
set_option maxRecDepth 100000 in
theorem c_Mt_begin (D : va_G) (n0 : Nat) (l : Launch) {a0 : Nat} {a1 : Int} {M : zHp} {M' : zHp} (hf : f_Mt_begin a0 a1 M = some M') : zM D n0 l y_Mt_begin b_Mt_begin 2 none 2 46 0 0 [zv n0 a0, zi a1] M none M' := by
  refine zM.ofZ (by decide) (zcr (zci zcn)) (Nat.le_of_ble_eq_true rfl) ?_
  intro p e s m below meth c C hr hnm
  have C : zC D n0 p s m meth c b_Mt_begin 2 "LayerVault$Memtable" := C
  refine z_eqL (L' := [some (zv n0 a0), some (zi a1)]) rfl ?_
  unfold f_Mt_begin at hf
  have hf := (zif hf).2
  refine z_aload_n C d_Mt_begin_0 rfl (z_pc (pc' := 1) rfl ?_)
  refine z_aload_n C d_Mt_begin_1 rfl (z_pc (pc' := 2) rfl ?_)
  refine z_iload_n C d_Mt_begin_2 rfl (z_pc (pc' := 3) rfl ?_)
  refine z_ldc C kc_Mt_42 d_Mt_begin_3 (z_pc (pc' := 5) rfl ?_)
  obtain ⟨x3, M2, h1, hf⟩ := zb2_inv hf
  refine z_callV C [zi a1, zi 2147483647] [zv n0 a0] kv_Mt_36 (c_Mt_last D n0 l h1) (e_Mt_last h1) ⟨(Nat.le_of_ble_eq_true rfl), (Nat.le_of_ble_eq_true rfl)⟩ (Nat.le_of_ble_eq_true rfl) ⟨(Nat.le_of_ble_eq_true rfl), (Nat.le_of_ble_eq_true rfl)⟩ d_Mt_begin_5 (z_pc (pc' := 8) rfl ?_)
  obtain ⟨x4, h5, hf⟩ := zbind hf
  refine z_getr C fl_Mt_18 rfl h5 d_Mt_begin_8 (z_pc (pc' := 11) rfl ?_)
  refine z_iconst C d_Mt_begin_11 (z_pc (pc' := 12) rfl ?_)
  obtain ⟨x6, h7, hf⟩ := zbind hf
  refine z_aald C (by decide) h7 d_Mt_begin_12 (z_pc (pc' := 13) rfl ?_)
  obtain ⟨M8, h9, hf⟩ := zbind hf
  refine z_putr C fp_Mt_43 rfl (by decide) rfl h9 d_Mt_begin_13 (z_pc (pc' := 16) rfl ?_)
  exact z_vret C hr (Nat.le_of_ble_eq_true rfl) (Nat.le_of_ble_eq_true rfl) d_Mt_begin_16 hf
theorem e_Mt_look {a0 : Nat} {M : zHp} {q : Nat × zHp} (hf : f_Mt_look a0 M = some q) : zk M a0 = 3 := by
  unfold f_Mt_look at hf
  exact (zif hf).1
set_option maxHeartbeats 4000000 in
set_option maxRecDepth 100000 in
theorem c_Mt_look (D : va_G) (n0 : Nat) (l : Launch) {a0 : Nat} {M : zHp} {r : Nat} {M' : zHp} (hf : f_Mt_look a0 M = some (r, M')) : zM D n0 l y_Mt_look b_Mt_look 1 (some (.object "LayerVault$Entry")) 0 0 0 0 [zv n0 a0] M (some (zv n0 r)) M' := by
  refine zM.ofZ (by decide) (zcr zcn) (Nat.le_of_ble_eq_true rfl) ?_
  intro p e s m below meth c C hr hnm
  have C : zC D n0 p s m meth c b_Mt_look 1 "LayerVault$Memtable" := C
  refine z_eqL (L' := [some (zv n0 a0)]) rfl ?_
  unfold f_Mt_look at hf
  have hf := (zif hf).2
  refine z_aload_n C d_Mt_look_0 rfl (z_pc (pc' := 1) rfl ?_)
  obtain ⟨x1, h2, hf⟩ := zbind hf
  refine z_getr C fl_Mt_43 rfl h2 d_Mt_look_1 (z_pc (pc' := 4) rfl ?_)
  exact z_aret C hr (Or.inl ⟨_, rfl⟩) (Nat.le_of_ble_eq_true rfl) (Nat.le_of_ble_eq_true rfl) d_Mt_look_4 hf
theorem e_Mt_step {a0 : Nat} {M : zHp} {q : zHp} (hf : f_Mt_step a0 M = some q) : zk M a0 = 3 := by
  unfold f_Mt_step at hf
  exact (zif hf).1
set_option maxHeartbeats 4000000 in
set_option maxRecDepth 100000 in
theorem c_Mt_step (D : va_G) (n0 : Nat) (l : Launch) {a0 : Nat} {M : zHp} {M' : zHp} (hf : f_Mt_step a0 M = some M') : zM D n0 l y_Mt_step b_Mt_step 1 none 0 0 0 0 [zv n0 a0] M none M' := by
  refine zM.ofZ (by decide) (zcr zcn) (Nat.le_of_ble_eq_true rfl) ?_
  intro p e s m below meth c C hr hnm
  have C : zC D n0 p s m meth c b_Mt_step 1 "LayerVault$Memtable" := C
  refine z_eqL (L' := [some (zv n0 a0)]) rfl ?_
  unfold f_Mt_step at hf
  have hf := (zif hf).2
  refine z_aload_n C d_Mt_step_0 rfl (z_pc (pc' := 1) rfl ?_)
  refine z_aload_n C d_Mt_step_1 rfl (z_pc (pc' := 2) rfl ?_)
  obtain ⟨x1, h2, hf⟩ := zbind hf
  refine z_getr C fl_Mt_43 rfl h2 d_Mt_step_2 (z_pc (pc' := 5) rfl ?_)
  obtain ⟨x3, h4, hf⟩ := zbind hf
  refine z_getr C fl_Mt_18 rfl h4 d_Mt_step_5 (z_pc (pc' := 8) rfl ?_)
  refine z_iconst C d_Mt_step_8 (z_pc (pc' := 9) rfl ?_)
  obtain ⟨x5, h6, hf⟩ := zbind hf
  refine z_aald C (by decide) h6 d_Mt_step_9 (z_pc (pc' := 10) rfl ?_)
  obtain ⟨M7, h8, hf⟩ := zbind hf
  refine z_putr C fp_Mt_43 rfl (by decide) rfl h8 d_Mt_step_10 (z_pc (pc' := 13) rfl ?_)
  exact z_vret C hr (Nat.le_of_ble_eq_true rfl) (Nat.le_of_ble_eq_true rfl) d_Mt_step_13 hf
set_option maxHeartbeats 4000000 in
set_option maxRecDepth 100000 in
theorem c_Tb_init (D : va_G) (n0 : Nat) (l : Launch) {a0 : Nat} {M : zHp} {M' : zHp} (h0 : 0 < a0) (hf : f_Tb_init a0 M = some M') : zM D n0 l y_Tb_init b_Tb_init 1 none 1 20 1 8 [zv n0 a0] M none M' := by
  refine zM.ofZ (by decide) (zcr zcn) (Nat.le_of_ble_eq_true rfl) ?_
  intro p e s m below meth c C hr hnm
  have C : zC D n0 p s m meth c b_Tb_init 1 "LayerVault$Table" := C
  have hnm : meth.name = "<init>" := hnm
  refine z_eqL (L' := [some (zv n0 a0)]) rfl ?_
  unfold f_Tb_init at hf
  refine z_aload_n C d_Tb_init_0 rfl (z_pc (pc' := 1) rfl ?_)
  refine z_objInit C h0 kj_Tb_3 kj_inst kj_code ⟨(Nat.le_of_ble_eq_true rfl), (Nat.le_of_ble_eq_true rfl)⟩ (Nat.le_of_ble_eq_true rfl) d_Tb_init_1 (z_pc (pc' := 4) rfl ?_)
  refine z_aload_n C d_Tb_init_4 rfl (z_pc (pc' := 5) rfl ?_)
  refine z_bipush C d_Tb_init_5 (by decide) (z_pc (pc' := 7) rfl ?_)
  obtain ⟨x1, M3, h2, hf⟩ := zb2_inv hf
  refine z_newR C (by decide) rfl (by decide) kl_Tb_9 ko_E h2 (Nat.le_of_ble_eq_true rfl) (Nat.le_of_ble_eq_true rfl) d_Tb_init_7 (z_pc (pc' := 10) rfl ?_)
  obtain ⟨M4, h5, hf⟩ := zbind hf
  refine z_putfr C hnm ff_Tb_11 rfl (by decide) rfl h5 d_Tb_init_10 (z_pc (pc' := 13) rfl ?_)
  exact z_vret C hr (Nat.le_of_ble_eq_true rfl) (Nat.le_of_ble_eq_true rfl) d_Tb_init_13 hf
set_option maxHeartbeats 4000000 in
set_option maxRecDepth 100000 in
theorem c_Tb_bits (D : va_G) (n0 : Nat) (l : Launch) {a0 : Int} {M : zHp} {r : Int} {M' : zHp} (hf : f_Tb_bits a0 M = some (r, M')) : zM D n0 l y_Tb_bits b_Tb_bits 1 (some .int) 0 0 0 0 [zi a0] M (some (zi r)) M' := by
  refine zM.ofZ (by decide) (zci zcn) (Nat.le_of_ble_eq_true rfl) ?_
  intro p e s m below meth c C hr hnm
  have C : zC D n0 p s m meth c b_Tb_bits 1 "LayerVault$Table" := C
  refine z_eqL (L' := [some (zi a0)]) rfl ?_
  unfold f_Tb_bits at hf
  refine z_iconst C d_Tb_bits_0 (z_pc (pc' := 1) rfl ?_)
  refine z_iconst C d_Tb_bits_1 (z_pc (pc' := 2) rfl ?_)
  refine z_iload_n C d_Tb_bits_2 rfl (z_pc (pc' := 3) rfl ?_)
  refine z_imul C d_Tb_bits_3 (z_pc (pc' := 4) rfl ?_)
  refine z_iconst C d_Tb_bits_4 (z_pc (pc' := 5) rfl ?_)
  refine z_iadd C d_Tb_bits_5 (z_pc (pc' := 6) rfl ?_)
  refine z_bipush C d_Tb_bits_6 (by decide) (z_pc (pc' := 8) rfl ?_)
  refine z_irem C (by decide) d_Tb_bits_8 (z_pc (pc' := 9) rfl ?_)
  refine z_ishl C d_Tb_bits_9 (z_pc (pc' := 10) rfl ?_)
  refine z_iconst C d_Tb_bits_10 (z_pc (pc' := 11) rfl ?_)
  refine z_bipush C d_Tb_bits_11 (by decide) (z_pc (pc' := 13) rfl ?_)
  refine z_iload_n C d_Tb_bits_13 rfl (z_pc (pc' := 14) rfl ?_)
  refine z_imul C d_Tb_bits_14 (z_pc (pc' := 15) rfl ?_)
  refine z_bipush C d_Tb_bits_15 (by decide) (z_pc (pc' := 17) rfl ?_)
  refine z_iadd C d_Tb_bits_17 (z_pc (pc' := 18) rfl ?_)
  refine z_bipush C d_Tb_bits_18 (by decide) (z_pc (pc' := 20) rfl ?_)
  refine z_irem C (by decide) d_Tb_bits_20 (z_pc (pc' := 21) rfl ?_)
  refine z_ishl C d_Tb_bits_21 (z_pc (pc' := 22) rfl ?_)
  refine z_ior C d_Tb_bits_22 (z_pc (pc' := 23) rfl ?_)
  exact z_iret C hr (Nat.le_of_ble_eq_true rfl) (Nat.le_of_ble_eq_true rfl) d_Tb_bits_23 hf
theorem e_Tb_add {a0 : Nat} {a1 : Nat} {M : zHp} {q : zHp} (hf : f_Tb_add a0 a1 M = some q) : zk M a0 = 4 := by
  unfold f_Tb_add at hf
  exact (zif hf).1
set_option maxHeartbeats 4000000 in
set_option maxRecDepth 100000 in
theorem c_Tb_add (D : va_G) (n0 : Nat) (l : Launch) {a0 : Nat} {a1 : Nat} {M : zHp} {M' : zHp} (hf : f_Tb_add a0 a1 M = some M') : zM D n0 l y_Tb_add b_Tb_add 2 none 1 20 0 0 [zv n0 a0, zv n0 a1] M none M' := by
  refine zM.ofZ (by decide) (zcr (zcr zcn)) (Nat.le_of_ble_eq_true rfl) ?_
  intro p e s m below meth c C hr hnm
  have C : zC D n0 p s m meth c b_Tb_add 2 "LayerVault$Table" := C
  refine z_eqL (L' := [some (zv n0 a0), some (zv n0 a1)]) rfl ?_
  unfold f_Tb_add at hf
  have hf := (zif hf).2
  refine z_aload_n C d_Tb_add_0 rfl (z_pc (pc' := 1) rfl ?_)
  obtain ⟨x1, h2, hf⟩ := zbind hf
  refine z_getr C fl_Tb_11 rfl h2 d_Tb_add_1 (z_pc (pc' := 4) rfl ?_)
  refine z_aload_n C d_Tb_add_4 rfl (z_pc (pc' := 5) rfl ?_)
  obtain ⟨x3, h4, hf⟩ := zbind hf
  refine z_geti C fl_Tb_17 h4 d_Tb_add_5 (z_pc (pc' := 8) rfl ?_)
  refine z_aload_n C d_Tb_add_8 rfl (z_pc (pc' := 9) rfl ?_)
  obtain ⟨M5, h6, hf⟩ := zbind hf
  refine z_aast C (by decide) h6 d_Tb_add_9 (z_pc (pc' := 10) rfl ?_)
  refine z_aload_n C d_Tb_add_10 rfl (z_pc (pc' := 11) rfl ?_)
  refine z_dupr C d_Tb_add_11 (z_pc (pc' := 12) rfl ?_)
  obtain ⟨x7, h8, hf⟩ := zbind hf
  refine z_geti C fl_Tb_17 h8 d_Tb_add_12 (z_pc (pc' := 15) rfl ?_)
  refine z_iconst C d_Tb_add_15 (z_pc (pc' := 16) rfl ?_)
  refine z_iadd C d_Tb_add_16 (z_pc (pc' := 17) rfl ?_)
  obtain ⟨M9, h10, hf⟩ := zbind hf
  refine z_puti C fp_Tb_17 (by decide) rfl h10 d_Tb_add_17 (z_pc (pc' := 20) rfl ?_)
  refine z_aload_n C d_Tb_add_20 rfl (z_pc (pc' := 21) rfl ?_)
  refine z_dupr C d_Tb_add_21 (z_pc (pc' := 22) rfl ?_)
  obtain ⟨x11, h12, hf⟩ := zbind hf
  refine z_geti C fl_Tb_21 h12 d_Tb_add_22 (z_pc (pc' := 25) rfl ?_)
  refine z_aload_n C d_Tb_add_25 rfl (z_pc (pc' := 26) rfl ?_)
  obtain ⟨x13, h14, hf⟩ := zbind hf
  refine z_geti C fl_Tb_24 h14 d_Tb_add_26 (z_pc (pc' := 29) rfl ?_)
  obtain ⟨x17, M16, h15, hf⟩ := zb2_inv hf
  refine z_callS C [zi x13] [zi x11, zv n0 a0] ks_Tb_27 (c_Tb_bits D n0 l h15) ⟨(Nat.le_of_ble_eq_true rfl), (Nat.le_of_ble_eq_true rfl)⟩ (Nat.le_of_ble_eq_true rfl) ⟨(Nat.le_of_ble_eq_true rfl), (Nat.le_of_ble_eq_true rfl)⟩ d_Tb_add_29 (z_pc (pc' := 32) rfl ?_)
  refine z_ior C d_Tb_add_32 (z_pc (pc' := 33) rfl ?_)
  obtain ⟨M18, h19, hf⟩ := zbind hf
  refine z_puti C fp_Tb_21 (by decide) rfl h19 d_Tb_add_33 (z_pc (pc' := 36) rfl ?_)
  exact z_vret C hr (Nat.le_of_ble_eq_true rfl) (Nat.le_of_ble_eq_true rfl) d_Tb_add_36 hf
theorem e_Tb_may {a0 : Nat} {a1 : Int} {M : zHp} {q : Int × zHp} (hf : f_Tb_may a0 a1 M = some q) : zk M a0 = 4 := by
  unfold f_Tb_may at hf
  exact (zif hf).1
set_option maxHeartbeats 4000000 in
set_option maxRecDepth 100000 in
theorem c_Tb_may (D : va_G) (n0 : Nat) (l : Launch) {a0 : Nat} {a1 : Int} {M : zHp} {r : Int} {M' : zHp} (hf : f_Tb_may a0 a1 M = some (r, M')) : zM D n0 l y_Tb_may b_Tb_may 2 (some .boolean) 1 20 0 0 [zv n0 a0, zi a1] M (some (zi r)) M' := by
  refine zM.ofZ (by decide) (zcr (zci zcn)) (Nat.le_of_ble_eq_true rfl) ?_
  intro p e s m below meth c C hr hnm
  have C : zC D n0 p s m meth c b_Tb_may 2 "LayerVault$Table" := C
  refine z_eqL (L' := [some (zv n0 a0), some (zi a1)]) rfl ?_
  unfold f_Tb_may at hf
  have hf := (zif hf).2
  refine z_aload_n C d_Tb_may_0 rfl (z_pc (pc' := 1) rfl ?_)
  obtain ⟨x1, h2, hf⟩ := zbind hf
  refine z_getr C fl_Tb_11 rfl h2 d_Tb_may_1 (z_pc (pc' := 4) rfl ?_)
  refine z_iconst C d_Tb_may_4 (z_pc (pc' := 5) rfl ?_)
  obtain ⟨x3, h4, hf⟩ := zbind hf
  refine z_aald C (by decide) h4 d_Tb_may_5 (z_pc (pc' := 6) rfl ?_)
  obtain ⟨x5, h6, hf⟩ := zbind hf
  refine z_geti C fl_Tb_24 h6 d_Tb_may_6 (z_pc (pc' := 9) rfl ?_)
  refine z_iload_n C d_Tb_may_9 rfl (z_pc (pc' := 10) rfl ?_)
  refine z_icmp_gt (tgt := 51) C d_Tb_may_10 (by decide) (fun c7 => ?_) (fun c7 => z_pc (pc' := 13) rfl ?_)
  · have hf := zpos c7 hf
    refine z_iconst C d_Tb_may_51 (z_pc (pc' := 52) rfl ?_)
    exact z_zret C hr rfl (Nat.le_of_ble_eq_true rfl) (Nat.le_of_ble_eq_true rfl) d_Tb_may_52 hf
  · have hf := zneg c7 hf
    refine z_iload_n C d_Tb_may_13 rfl (z_pc (pc' := 14) rfl ?_)
    refine z_aload_n C d_Tb_may_14 rfl (z_pc (pc' := 15) rfl ?_)
    obtain ⟨x8, h9, hf⟩ := zbind hf
    refine z_getr C fl_Tb_11 rfl h9 d_Tb_may_15 (z_pc (pc' := 18) rfl ?_)
    refine z_aload_n C d_Tb_may_18 rfl (z_pc (pc' := 19) rfl ?_)
    obtain ⟨x10, h11, hf⟩ := zbind hf
    refine z_geti C fl_Tb_17 h11 d_Tb_may_19 (z_pc (pc' := 22) rfl ?_)
    refine z_iconst C d_Tb_may_22 (z_pc (pc' := 23) rfl ?_)
    refine z_isub C d_Tb_may_23 (z_pc (pc' := 24) rfl ?_)
    obtain ⟨x12, h13, hf⟩ := zbind hf
    refine z_aald C (by decide) h13 d_Tb_may_24 (z_pc (pc' := 25) rfl ?_)
    obtain ⟨x14, h15, hf⟩ := zbind hf
    refine z_geti C fl_Tb_24 h15 d_Tb_may_25 (z_pc (pc' := 28) rfl ?_)
    refine z_icmp_gt (tgt := 51) C d_Tb_may_28 (by decide) (fun c16 => ?_) (fun c16 => z_pc (pc' := 31) rfl ?_)
    · have hf := zpos c16 hf
      refine z_iconst C d_Tb_may_51 (z_pc (pc' := 52) rfl ?_)
      exact z_zret C hr rfl (Nat.le_of_ble_eq_true rfl) (Nat.le_of_ble_eq_true rfl) d_Tb_may_52 hf
    · have hf := zneg c16 hf
      refine z_aload_n C d_Tb_may_31 rfl (z_pc (pc' := 32) rfl ?_)
      obtain ⟨x17, h18, hf⟩ := zbind hf
      refine z_geti C fl_Tb_21 h18 d_Tb_may_32 (z_pc (pc' := 35) rfl ?_)
      refine z_iload_n C d_Tb_may_35 rfl (z_pc (pc' := 36) rfl ?_)
      obtain ⟨x21, M20, h19, hf⟩ := zb2_inv hf
      refine z_callS C [zi a1] [zi x17] ks_Tb_27 (c_Tb_bits D n0 l h19) ⟨(Nat.le_of_ble_eq_true rfl), (Nat.le_of_ble_eq_true rfl)⟩ (Nat.le_of_ble_eq_true rfl) ⟨(Nat.le_of_ble_eq_true rfl), (Nat.le_of_ble_eq_true rfl)⟩ d_Tb_may_36 (z_pc (pc' := 39) rfl ?_)
      refine z_iand C d_Tb_may_39 (z_pc (pc' := 40) rfl ?_)
      refine z_iload_n C d_Tb_may_40 rfl (z_pc (pc' := 41) rfl ?_)
      obtain ⟨x24, M23, h22, hf⟩ := zb2_inv hf
      refine z_callS C [zi a1] [zi (zand x17 x21)] ks_Tb_27 (c_Tb_bits D n0 l h22) ⟨(Nat.le_of_ble_eq_true rfl), (Nat.le_of_ble_eq_true rfl)⟩ (Nat.le_of_ble_eq_true rfl) ⟨(Nat.le_of_ble_eq_true rfl), (Nat.le_of_ble_eq_true rfl)⟩ d_Tb_may_41 (z_pc (pc' := 44) rfl ?_)
      refine z_icmp_ne (tgt := 51) C d_Tb_may_44 (by decide) (fun c25 => ?_) (fun c25 => z_pc (pc' := 47) rfl ?_)
      · have hf := zneg c25 hf
        refine z_iconst C d_Tb_may_51 (z_pc (pc' := 52) rfl ?_)
        exact z_zret C hr rfl (Nat.le_of_ble_eq_true rfl) (Nat.le_of_ble_eq_true rfl) d_Tb_may_52 hf
      · have hf := zpos c25 hf
        refine z_iconst C d_Tb_may_47 (z_pc (pc' := 48) rfl ?_)
        refine z_goto (tgt := 52) C d_Tb_may_48 (by decide) ?_
        exact z_zret C hr rfl (Nat.le_of_ble_eq_true rfl) (Nat.le_of_ble_eq_true rfl) d_Tb_may_52 hf
set_option maxHeartbeats 4000000 in
set_option maxRecDepth 100000 in
theorem w_Tb_place_L8 {D : va_G} {n0 : Nat} {l : Launch} {p : Program} {e : Env} {s : State} {m : MethodId} {args : Array Value} {below : List Frame} {meth : Method} {c : Code} {a0 : Nat} {a1 : Int} {a2 : Int} {r : Int} {M' : zHp} {κ : Int → zHp → Option (Int × zHp)} (C : zC D n0 p s m meth c b_Tb_place 6 "LayerVault$Table") (hr : meth.sig.returnType = (some .int))
    (hκ : ∀ (u3 : Int) (M1 : zHp), κ u3 M1 = some (r, M') → zZ D n0 p l e { frames := 1, cells := 0, slots := 0, locals := 22 } s m args below meth c 6 0 0 (MQ below (zQc D n0 (some (zi r)) M') args s 0 0 (fun q => n0 ≤ q)) 52 [none, none, none, some (zi u3), none, none] [] M1) :
    ∀ (n : Nat) (v3 : Int) (v4 : Int) (M : zHp), f_Tb_place_L8 κ a0 a1 a2 n v3 v4 M = some (r, M') → zZ D n0 p l e { frames := 1, cells := 0, slots := 0, locals := 22 } s m args below meth c 6 0 0 (MQ below (zQc D n0 (some (zi r)) M') args s 0 0 (fun q => n0 ≤ q)) 8 [some (zv n0 a0), some (zi a1), some (zi a2), some (zi v3), some (zi v4), none] [] M := by
  intro n
  induction n with
  | zero =>
    intro v3 v4 M hf
    exact absurd hf (by unfold f_Tb_place_L8; simp)
  | succ n ih =>
    intro v3 v4 M hf
    unfold f_Tb_place_L8 at hf
    refine z_iload_n C d_Tb_place_8 rfl (z_pc (pc' := 9) rfl ?_)
    refine z_iload C d_Tb_place_9 rfl (z_pc (pc' := 11) rfl ?_)
    refine z_icmp_ge (tgt := 52) C d_Tb_place_11 (by decide) (fun c3 => ?_) (fun c3 => z_pc (pc' := 14) rfl ?_)
    · have hf := zpos c3 hf
      exact z_sub2 (hκ _ _ hf) (And.intro rfl trivial)
    · have hf := zneg c3 hf
      refine z_iload_n C d_Tb_place_14 rfl (z_pc (pc' := 15) rfl ?_)
      refine z_iload C d_Tb_place_15 rfl (z_pc (pc' := 17) rfl ?_)
      refine z_iadd C d_Tb_place_17 (z_pc (pc' := 18) rfl ?_)
      refine z_iconst C d_Tb_place_18 (z_pc (pc' := 19) rfl ?_)
      refine z_idiv C (by decide) d_Tb_place_19 (z_pc (pc' := 20) rfl ?_)
      refine z_istore C d_Tb_place_20 (by decide) (z_pl (pc' := 22) (L' := [some (zv n0 a0), some (zi a1), some (zi a2), some (zi v3), some (zi v4), some (zi (zdiv (zadd v3 v4) 2))]) rfl rfl ?_)
      refine z_aload_n C d_Tb_place_22 rfl (z_pc (pc' := 23) rfl ?_)
      obtain ⟨x4, h5, hf⟩ := zbind hf
      refine z_getr C fl_Tb_11 rfl h5 d_Tb_place_23 (z_pc (pc' := 26) rfl ?_)
      refine z_iload C d_Tb_place_26 rfl (z_pc (pc' := 28) rfl ?_)
      obtain ⟨x6, h7, hf⟩ := zbind hf
      refine z_aald C (by decide) h7 d_Tb_place_28 (z_pc (pc' := 29) rfl ?_)
      refine z_iload_n C d_Tb_place_29 rfl (z_pc (pc' := 30) rfl ?_)
      refine z_iload_n C d_Tb_place_30 rfl (z_pc (pc' := 31) rfl ?_)
      obtain ⟨x10, M9, h8, hf⟩ := zb2_inv hf
      refine z_callV C [zi a1, zi a2] [] kv_Tb_31 (c_E_before D n0 l h8) (e_E_before h8) ⟨(Nat.le_of_ble_eq_true rfl), (Nat.le_of_ble_eq_true rfl)⟩ (Nat.le_of_ble_eq_true rfl) ⟨(Nat.le_of_ble_eq_true rfl), (Nat.le_of_ble_eq_true rfl)⟩ d_Tb_place_31 (z_pc (pc' := 34) rfl ?_)
      refine z_if_eq (tgt := 45) C d_Tb_place_34 (by decide) (fun c11 => ?_) (fun c11 => z_pc (pc' := 37) rfl ?_)
      · have hf := zpos c11 hf
        refine z_iload C d_Tb_place_45 rfl (z_pc (pc' := 47) rfl ?_)
        refine z_istore C d_Tb_place_47 (by decide) (z_pl (pc' := 49) (L' := [some (zv n0 a0), some (zi a1), some (zi a2), some (zi v3), some (zi (zdiv (zadd v3 v4) 2)), some (zi (zdiv (zadd v3 v4) 2))]) rfl rfl ?_)
        refine z_goto (tgt := 8) C d_Tb_place_49 (by decide) ?_
        exact z_sub2 (ih _ _ _ hf) (And.intro rfl (And.intro rfl (And.intro rfl (And.intro rfl (And.intro rfl trivial)))))
      · have hf := zneg c11 hf
        refine z_iload C d_Tb_place_37 rfl (z_pc (pc' := 39) rfl ?_)
        refine z_iconst C d_Tb_place_39 (z_pc (pc' := 40) rfl ?_)
        refine z_iadd C d_Tb_place_40 (z_pc (pc' := 41) rfl ?_)
        refine z_istore_n C d_Tb_place_41 (by decide) (z_pl (pc' := 42) (L' := [some (zv n0 a0), some (zi a1), some (zi a2), some (zi (zadd (zdiv (zadd v3 v4) 2) 1)), some (zi v4), some (zi (zdiv (zadd v3 v4) 2))]) rfl rfl ?_)
        refine z_goto (tgt := 49) C d_Tb_place_42 (by decide) ?_
        refine z_goto (tgt := 8) C d_Tb_place_49 (by decide) ?_
        exact z_sub2 (ih _ _ _ hf) (And.intro rfl (And.intro rfl (And.intro rfl (And.intro rfl (And.intro rfl trivial)))))
theorem e_Tb_place {a0 : Nat} {a1 : Int} {a2 : Int} {M : zHp} {q : Int × zHp} (hf : f_Tb_place a0 a1 a2 M = some q) : zk M a0 = 4 := by
  unfold f_Tb_place at hf
  exact (zif hf).1
set_option maxHeartbeats 4000000 in
set_option maxRecDepth 100000 in
theorem c_Tb_place (D : va_G) (n0 : Nat) (l : Launch) {a0 : Nat} {a1 : Int} {a2 : Int} {M : zHp} {r : Int} {M' : zHp} (hf : f_Tb_place a0 a1 a2 M = some (r, M')) : zM D n0 l y_Tb_place b_Tb_place 6 (some .int) 1 22 0 0 [zv n0 a0, zi a1, zi a2] M (some (zi r)) M' := by
  refine zM.ofZ (by decide) (zcr (zci (zci zcn))) (Nat.le_of_ble_eq_true rfl) ?_
  intro p e s m below meth c C hr hnm
  have C : zC D n0 p s m meth c b_Tb_place 6 "LayerVault$Table" := C
  refine z_eqL (L' := [some (zv n0 a0), some (zi a1), some (zi a2), none, none, none]) rfl ?_
  unfold f_Tb_place at hf
  have hf := (zif hf).2
  refine z_iconst C d_Tb_place_0 (z_pc (pc' := 1) rfl ?_)
  refine z_istore_n C d_Tb_place_1 (by decide) (z_pl (pc' := 2) (L' := [some (zv n0 a0), some (zi a1), some (zi a2), some (zi 0), none, none]) rfl rfl ?_)
  refine z_aload_n C d_Tb_place_2 rfl (z_pc (pc' := 3) rfl ?_)
  obtain ⟨x1, h2, hf⟩ := zbind hf
  refine z_geti C fl_Tb_17 h2 d_Tb_place_3 (z_pc (pc' := 6) rfl ?_)
  refine z_istore C d_Tb_place_6 (by decide) (z_pl (pc' := 8) (L' := [some (zv n0 a0), some (zi a1), some (zi a2), some (zi 0), some (zi x1), none]) rfl rfl ?_)
  refine z_sub2 (w_Tb_place_L8 C hr ?_ _ _ _ _ hf) (And.intro rfl (And.intro rfl (And.intro rfl (And.intro rfl (And.intro rfl trivial)))))
  intro v12 M13 hf
  refine z_iload_n C d_Tb_place_52 rfl (z_pc (pc' := 53) rfl ?_)
  exact z_iret C hr (Nat.le_of_ble_eq_true rfl) (Nat.le_of_ble_eq_true rfl) d_Tb_place_53 hf
theorem e_Tb_find {a0 : Nat} {a1 : Int} {a2 : Int} {M : zHp} {q : Nat × zHp} (hf : f_Tb_find a0 a1 a2 M = some q) : zk M a0 = 4 := by
  unfold f_Tb_find at hf
  exact (zif hf).1
set_option maxHeartbeats 4000000 in
set_option maxRecDepth 100000 in
theorem c_Tb_find (D : va_G) (n0 : Nat) (l : Launch) {a0 : Nat} {a1 : Int} {a2 : Int} {M : zHp} {r : Nat} {M' : zHp} (hf : f_Tb_find a0 a1 a2 M = some (r, M')) : zM D n0 l y_Tb_find b_Tb_find 4 (some (.object "LayerVault$Entry")) 2 47 0 0 [zv n0 a0, zi a1, zi a2] M (some (zv n0 r)) M' := by
  refine zM.ofZ (by decide) (zcr (zci (zci zcn))) (Nat.le_of_ble_eq_true rfl) ?_
  intro p e s m below meth c C hr hnm
  have C : zC D n0 p s m meth c b_Tb_find 4 "LayerVault$Table" := C
  refine z_eqL (L' := [some (zv n0 a0), some (zi a1), some (zi a2), none]) rfl ?_
  unfold f_Tb_find at hf
  have hf := (zif hf).2
  refine z_aload_n C d_Tb_find_0 rfl (z_pc (pc' := 1) rfl ?_)
  refine z_iload_n C d_Tb_find_1 rfl (z_pc (pc' := 2) rfl ?_)
  refine z_iload_n C d_Tb_find_2 rfl (z_pc (pc' := 3) rfl ?_)
  obtain ⟨x3, M2, h1, hf⟩ := zb2_inv hf
  refine z_callV C [zi a1, zi a2] [] kv_Tb_35 (c_Tb_place D n0 l h1) (e_Tb_place h1) ⟨(Nat.le_of_ble_eq_true rfl), (Nat.le_of_ble_eq_true rfl)⟩ (Nat.le_of_ble_eq_true rfl) ⟨(Nat.le_of_ble_eq_true rfl), (Nat.le_of_ble_eq_true rfl)⟩ d_Tb_find_3 (z_pc (pc' := 6) rfl ?_)
  refine z_istore_n C d_Tb_find_6 (by decide) (z_pl (pc' := 7) (L' := [some (zv n0 a0), some (zi a1), some (zi a2), some (zi x3)]) rfl rfl ?_)
  refine z_iload_n C d_Tb_find_7 rfl (z_pc (pc' := 8) rfl ?_)
  refine z_aload_n C d_Tb_find_8 rfl (z_pc (pc' := 9) rfl ?_)
  obtain ⟨x4, h5, hf⟩ := zbind hf
  refine z_geti C fl_Tb_17 h5 d_Tb_find_9 (z_pc (pc' := 12) rfl ?_)
  refine z_icmp_ge (tgt := 37) C d_Tb_find_12 (by decide) (fun c6 => ?_) (fun c6 => z_pc (pc' := 15) rfl ?_)
  · have hf := zpos c6 hf
    refine z_null C d_Tb_find_37 (z_pc (pc' := 38) rfl ?_)
    exact z_aret C hr (Or.inl ⟨_, rfl⟩) (Nat.le_of_ble_eq_true rfl) (Nat.le_of_ble_eq_true rfl) d_Tb_find_38 hf
  · have hf := zneg c6 hf
    refine z_aload_n C d_Tb_find_15 rfl (z_pc (pc' := 16) rfl ?_)
    obtain ⟨x7, h8, hf⟩ := zbind hf
    refine z_getr C fl_Tb_11 rfl h8 d_Tb_find_16 (z_pc (pc' := 19) rfl ?_)
    refine z_iload_n C d_Tb_find_19 rfl (z_pc (pc' := 20) rfl ?_)
    obtain ⟨x9, h10, hf⟩ := zbind hf
    refine z_aald C (by decide) h10 d_Tb_find_20 (z_pc (pc' := 21) rfl ?_)
    obtain ⟨x11, h12, hf⟩ := zbind hf
    refine z_geti C fl_Tb_24 h12 d_Tb_find_21 (z_pc (pc' := 24) rfl ?_)
    refine z_iload_n C d_Tb_find_24 rfl (z_pc (pc' := 25) rfl ?_)
    refine z_icmp_ne (tgt := 37) C d_Tb_find_25 (by decide) (fun c13 => ?_) (fun c13 => z_pc (pc' := 28) rfl ?_)
    · have hf := zneg c13 hf
      refine z_null C d_Tb_find_37 (z_pc (pc' := 38) rfl ?_)
      exact z_aret C hr (Or.inl ⟨_, rfl⟩) (Nat.le_of_ble_eq_true rfl) (Nat.le_of_ble_eq_true rfl) d_Tb_find_38 hf
    · have hf := zpos c13 hf
      refine z_aload_n C d_Tb_find_28 rfl (z_pc (pc' := 29) rfl ?_)
      obtain ⟨x14, h15, hf⟩ := zbind hf
      refine z_getr C fl_Tb_11 rfl h15 d_Tb_find_29 (z_pc (pc' := 32) rfl ?_)
      refine z_iload_n C d_Tb_find_32 rfl (z_pc (pc' := 33) rfl ?_)
      obtain ⟨x16, h17, hf⟩ := zbind hf
      refine z_aald C (by decide) h17 d_Tb_find_33 (z_pc (pc' := 34) rfl ?_)
      refine z_goto (tgt := 38) C d_Tb_find_34 (by decide) ?_
      exact z_aret C hr (Or.inl ⟨_, rfl⟩) (Nat.le_of_ble_eq_true rfl) (Nat.le_of_ble_eq_true rfl) d_Tb_find_38 hf
set_option maxHeartbeats 4000000 in
set_option maxRecDepth 100000 in
theorem c_Lv_init (D : va_G) (n0 : Nat) (l : Launch) {a0 : Nat} {a1 : Int} {M : zHp} {M' : zHp} (h0 : 0 < a0) (hf : f_Lv_init a0 a1 M = some M') : zM D n0 l y_Lv_init b_Lv_init 2 none 1 20 1 30 [zv n0 a0, zi a1] M none M' := by
  refine zM.ofZ (by decide) (zcr (zci zcn)) (Nat.le_of_ble_eq_true rfl) ?_
  intro p e s m below meth c C hr hnm
  have C : zC D n0 p s m meth c b_Lv_init 2 "LayerVault$Level" := C
  have hnm : meth.name = "<init>" := hnm
  refine z_eqL (L' := [some (zv n0 a0), some (zi a1)]) rfl ?_
  unfold f_Lv_init at hf
  refine z_aload_n C d_Lv_init_0 rfl (z_pc (pc' := 1) rfl ?_)
  refine z_objInit C h0 kj_Lv_1 kj_inst kj_code ⟨(Nat.le_of_ble_eq_true rfl), (Nat.le_of_ble_eq_true rfl)⟩ (Nat.le_of_ble_eq_true rfl) d_Lv_init_1 (z_pc (pc' := 4) rfl ?_)
  refine z_aload_n C d_Lv_init_4 rfl (z_pc (pc' := 5) rfl ?_)
  refine z_iload_n C d_Lv_init_5 rfl (z_pc (pc' := 6) rfl ?_)
  obtain ⟨x1, M3, h2, hf⟩ := zb2_inv hf
  refine z_newR C (by decide) rfl (by decide) kl_Lv_7 ko_Tb h2 (Nat.le_of_ble_eq_true rfl) (Nat.le_of_ble_eq_true rfl) d_Lv_init_6 (z_pc (pc' := 9) rfl ?_)
  obtain ⟨M4, h5, hf⟩ := zbind hf
  refine z_putfr C hnm ff_Lv_9 rfl (by decide) rfl h5 d_Lv_init_9 (z_pc (pc' := 12) rfl ?_)
  exact z_vret C hr (Nat.le_of_ble_eq_true rfl) (Nat.le_of_ble_eq_true rfl) d_Lv_init_12 hf
set_option maxHeartbeats 4000000 in
set_option maxRecDepth 100000 in
theorem w_Lv_entries_L4 {D : va_G} {n0 : Nat} {l : Launch} {p : Program} {e : Env} {s : State} {m : MethodId} {args : Array Value} {below : List Frame} {meth : Method} {c : Code} {a0 : Nat} {r : Int} {M' : zHp} {κ : Int → zHp → Option (Int × zHp)} (C : zC D n0 p s m meth c b_Lv_entries 3 "LayerVault$Level") (hr : meth.sig.returnType = (some .int))
    (hκ : ∀ (u1 : Int) (M1 : zHp), κ u1 M1 = some (r, M') → zZ D n0 p l e { frames := 0, cells := 0, slots := 0, locals := 0 } s m args below meth c 3 0 0 (MQ below (zQc D n0 (some (zi r)) M') args s 0 0 (fun q => n0 ≤ q)) 30 [none, some (zi u1), none] [] M1) :
    ∀ (n : Nat) (v1 : Int) (v2 : Int) (M : zHp), f_Lv_entries_L4 κ a0 n v1 v2 M = some (r, M') → zZ D n0 p l e { frames := 0, cells := 0, slots := 0, locals := 0 } s m args below meth c 3 0 0 (MQ below (zQc D n0 (some (zi r)) M') args s 0 0 (fun q => n0 ≤ q)) 4 [some (zv n0 a0), some (zi v1), some (zi v2)] [] M := by
  intro n
  induction n with
  | zero =>
    intro v1 v2 M hf
    exact absurd hf (by unfold f_Lv_entries_L4; simp)
  | succ n ih =>
    intro v1 v2 M hf
    unfold f_Lv_entries_L4 at hf
    refine z_iload_n C d_Lv_entries_4 rfl (z_pc (pc' := 5) rfl ?_)
    refine z_aload_n C d_Lv_entries_5 rfl (z_pc (pc' := 6) rfl ?_)
    obtain ⟨x1, h2, hf⟩ := zbind hf
    refine z_geti C fl_Lv_15 h2 d_Lv_entries_6 (z_pc (pc' := 9) rfl ?_)
    refine z_icmp_ge (tgt := 30) C d_Lv_entries_9 (by decide) (fun c3 => ?_) (fun c3 => z_pc (pc' := 12) rfl ?_)
    · have hf := zpos c3 hf
      exact z_sub2 (hκ _ _ hf) (And.intro rfl trivial)
    · have hf := zneg c3 hf
      refine z_iload_n C d_Lv_entries_12 rfl (z_pc (pc' := 13) rfl ?_)
      refine z_aload_n C d_Lv_entries_13 rfl (z_pc (pc' := 14) rfl ?_)
      obtain ⟨x4, h5, hf⟩ := zbind hf
      refine z_getr C fl_Lv_9 rfl h5 d_Lv_entries_14 (z_pc (pc' := 17) rfl ?_)
      refine z_iload_n C d_Lv_entries_17 rfl (z_pc (pc' := 18) rfl ?_)
      obtain ⟨x6, h7, hf⟩ := zbind hf
      refine z_aald C (by decide) h7 d_Lv_entries_18 (z_pc (pc' := 19) rfl ?_)
      obtain ⟨x8, h9, hf⟩ := zbind hf
      refine z_geti C fl_Lv_19 h9 d_Lv_entries_19 (z_pc (pc' := 22) rfl ?_)
      refine z_iadd C d_Lv_entries_22 (z_pc (pc' := 23) rfl ?_)
      refine z_istore_n C d_Lv_entries_23 (by decide) (z_pl (pc' := 24) (L' := [some (zv n0 a0), some (zi (zadd v1 x8)), some (zi v2)]) rfl rfl ?_)
      refine z_iinc C d_Lv_entries_24 rfl (by decide) (z_pl (pc' := 27) (L' := [some (zv n0 a0), some (zi (zadd v1 x8)), some (zi (zadd v2 1))]) rfl rfl ?_)
      refine z_goto (tgt := 4) C d_Lv_entries_27 (by decide) ?_
      exact z_sub2 (ih _ _ _ hf) (And.intro rfl (And.intro rfl (And.intro rfl trivial)))
theorem e_Lv_entries {a0 : Nat} {M : zHp} {q : Int × zHp} (hf : f_Lv_entries a0 M = some q) : zk M a0 = 5 := by
  unfold f_Lv_entries at hf
  exact (zif hf).1
set_option maxHeartbeats 4000000 in
set_option maxRecDepth 100000 in
theorem c_Lv_entries (D : va_G) (n0 : Nat) (l : Launch) {a0 : Nat} {M : zHp} {r : Int} {M' : zHp} (hf : f_Lv_entries a0 M = some (r, M')) : zM D n0 l y_Lv_entries b_Lv_entries 3 (some .int) 0 0 0 0 [zv n0 a0] M (some (zi r)) M' := by
  refine zM.ofZ (by decide) (zcr zcn) (Nat.le_of_ble_eq_true rfl) ?_
  intro p e s m below meth c C hr hnm
  have C : zC D n0 p s m meth c b_Lv_entries 3 "LayerVault$Level" := C
  refine z_eqL (L' := [some (zv n0 a0), none, none]) rfl ?_
  unfold f_Lv_entries at hf
  have hf := (zif hf).2
  refine z_iconst C d_Lv_entries_0 (z_pc (pc' := 1) rfl ?_)
  refine z_istore_n C d_Lv_entries_1 (by decide) (z_pl (pc' := 2) (L' := [some (zv n0 a0), some (zi 0), none]) rfl rfl ?_)
  refine z_iconst C d_Lv_entries_2 (z_pc (pc' := 3) rfl ?_)
  refine z_istore_n C d_Lv_entries_3 (by decide) (z_pl (pc' := 4) (L' := [some (zv n0 a0), some (zi 0), some (zi 0)]) rfl rfl ?_)
  refine z_sub2 (w_Lv_entries_L4 C hr ?_ _ _ _ _ hf) (And.intro rfl (And.intro rfl (And.intro rfl trivial)))
  intro v10 M11 hf
  refine z_iload_n C d_Lv_entries_30 rfl (z_pc (pc' := 31) rfl ?_)
  exact z_iret C hr (Nat.le_of_ble_eq_true rfl) (Nat.le_of_ble_eq_true rfl) d_Lv_entries_31 hf
set_option maxHeartbeats 4000000 in
set_option maxRecDepth 100000 in
theorem w_Lv_begin_L15 {D : va_G} {n0 : Nat} {l : Launch} {p : Program} {e : Env} {s : State} {m : MethodId} {args : Array Value} {below : List Frame} {meth : Method} {c : Code} {a0 : Nat} {a3 : Int} {M' : zHp} {κ : zHp → Option (zHp)} (C : zC D n0 p s m meth c b_Lv_begin 4 "LayerVault$Level") (hr : meth.sig.returnType = none)
    (hκ : ∀ (M1 : zHp), κ M1 = some M' → zZ D n0 p l e { frames := 2, cells := 0, slots := 0, locals := 47 } s m args below meth c 4 0 0 (MQ below (zQc D n0 none M') args s 0 0 (fun q => n0 ≤ q)) 73 [some (zv n0 a0), none, none, some (zi a3)] [] M1) :
    ∀ (n : Nat)  (M : zHp), f_Lv_begin_L15 κ a0 a3 n M = some M' → zZ D n0 p l e { frames := 2, cells := 0, slots := 0, locals := 47 } s m args below meth c 4 0 0 (MQ below (zQc D n0 none M') args s 0 0 (fun q => n0 ≤ q)) 15 [some (zv n0 a0), none, none, some (zi a3)] [] M := by
  intro n
  induction n with
  | zero =>
    intro M hf
    exact absurd hf (by unfold f_Lv_begin_L15; simp)
  | succ n ih =>
    intro M hf
    unfold f_Lv_begin_L15 at hf
    refine z_aload_n C d_Lv_begin_15 rfl (z_pc (pc' := 16) rfl ?_)
    obtain ⟨x7, h8, hf⟩ := zbind hf
    refine z_geti C fl_Lv_20 h8 d_Lv_begin_16 (z_pc (pc' := 19) rfl ?_)
    refine z_aload_n C d_Lv_begin_19 rfl (z_pc (pc' := 20) rfl ?_)
    obtain ⟨x9, h10, hf⟩ := zbind hf
    refine z_geti C fl_Lv_23 h10 d_Lv_begin_20 (z_pc (pc' := 23) rfl ?_)
    refine z_icmp_ge (tgt := 73) C d_Lv_begin_23 (by decide) (fun c11 => ?_) (fun c11 => z_pc (pc' := 26) rfl ?_)
    · have hf := zpos c11 hf
      exact z_sub2 (hκ _ hf) (And.intro rfl (And.intro rfl trivial))
    · have hf := zneg c11 hf
      refine z_aload_n C d_Lv_begin_26 rfl (z_pc (pc' := 27) rfl ?_)
      obtain ⟨x12, h13, hf⟩ := zbind hf
      refine z_getr C fl_Lv_9 rfl h13 d_Lv_begin_27 (z_pc (pc' := 30) rfl ?_)
      refine z_aload_n C d_Lv_begin_30 rfl (z_pc (pc' := 31) rfl ?_)
      obtain ⟨x14, h15, hf⟩ := zbind hf
      refine z_geti C fl_Lv_20 h15 d_Lv_begin_31 (z_pc (pc' := 34) rfl ?_)
      obtain ⟨x16, h17, hf⟩ := zbind hf
      refine z_aald C (by decide) h17 d_Lv_begin_34 (z_pc (pc' := 35) rfl ?_)
      obtain ⟨x18, h19, hf⟩ := zbind hf
      refine z_getr C fl_Lv_29 rfl h19 d_Lv_begin_35 (z_pc (pc' := 38) rfl ?_)
      refine z_aload_n C d_Lv_begin_38 rfl (z_pc (pc' := 39) rfl ?_)
      obtain ⟨x20, h21, hf⟩ := zbind hf
      refine z_getr C fl_Lv_9 rfl h21 d_Lv_begin_39 (z_pc (pc' := 42) rfl ?_)
      refine z_aload_n C d_Lv_begin_42 rfl (z_pc (pc' := 43) rfl ?_)
      obtain ⟨x22, h23, hf⟩ := zbind hf
      refine z_geti C fl_Lv_20 h23 d_Lv_begin_43 (z_pc (pc' := 46) rfl ?_)
      obtain ⟨x24, h25, hf⟩ := zbind hf
      refine z_aald C (by decide) h25 d_Lv_begin_46 (z_pc (pc' := 47) rfl ?_)
      obtain ⟨x26, h27, hf⟩ := zbind hf
      refine z_geti C fl_Lv_19 h27 d_Lv_begin_47 (z_pc (pc' := 50) rfl ?_)
      refine z_iconst C d_Lv_begin_50 (z_pc (pc' := 51) rfl ?_)
      refine z_isub C d_Lv_begin_51 (z_pc (pc' := 52) rfl ?_)
      obtain ⟨x28, h29, hf⟩ := zbind hf
      refine z_aald C (by decide) h29 d_Lv_begin_52 (z_pc (pc' := 53) rfl ?_)
      obtain ⟨x30, h31, hf⟩ := zbind hf
      refine z_geti C fl_Lv_33 h31 d_Lv_begin_53 (z_pc (pc' := 56) rfl ?_)
      refine z_iload_n C d_Lv_begin_56 rfl (z_pc (pc' := 57) rfl ?_)
      refine z_icmp_ge (tgt := 73) C d_Lv_begin_57 (by decide) (fun c32 => ?_) (fun c32 => z_pc (pc' := 60) rfl ?_)
      · have hf := zpos c32 hf
        exact z_sub2 (hκ _ hf) (And.intro rfl (And.intro rfl trivial))
      · have hf := zneg c32 hf
        refine z_aload_n C d_Lv_begin_60 rfl (z_pc (pc' := 61) rfl ?_)
        refine z_dupr C d_Lv_begin_61 (z_pc (pc' := 62) rfl ?_)
        obtain ⟨x33, h34, hf⟩ := zbind hf
        refine z_geti C fl_Lv_20 h34 d_Lv_begin_62 (z_pc (pc' := 65) rfl ?_)
        refine z_iconst C d_Lv_begin_65 (z_pc (pc' := 66) rfl ?_)
        refine z_iadd C d_Lv_begin_66 (z_pc (pc' := 67) rfl ?_)
        obtain ⟨M35, h36, hf⟩ := zbind hf
        refine z_puti C fp_Lv_20 (by decide) rfl h36 d_Lv_begin_67 (z_pc (pc' := 70) rfl ?_)
        refine z_goto (tgt := 15) C d_Lv_begin_70 (by decide) ?_
        exact z_sub2 (ih  _ hf) (And.intro rfl (And.intro rfl trivial))
theorem e_Lv_begin {a0 : Nat} {a1 : Int} {a2 : Int} {a3 : Int} {M : zHp} {q : zHp} (hf : f_Lv_begin a0 a1 a2 a3 M = some q) : zk M a0 = 5 := by
  unfold f_Lv_begin at hf
  exact (zif hf).1
set_option maxHeartbeats 4000000 in
set_option maxRecDepth 100000 in
theorem c_Lv_begin (D : va_G) (n0 : Nat) (l : Launch) {a0 : Nat} {a1 : Int} {a2 : Int} {a3 : Int} {M : zHp} {M' : zHp} (hf : f_Lv_begin a0 a1 a2 a3 M = some M') : zM D n0 l y_Lv_begin b_Lv_begin 4 none 2 47 0 0 [zv n0 a0, zi a1, zi a2, zi a3] M none M' := by
  refine zM.ofZ (by decide) (zcr (zci (zci (zci zcn)))) (Nat.le_of_ble_eq_true rfl) ?_
  intro p e s m below meth c C hr hnm
  have C : zC D n0 p s m meth c b_Lv_begin 4 "LayerVault$Level" := C
  refine z_eqL (L' := [some (zv n0 a0), some (zi a1), some (zi a2), some (zi a3)]) rfl ?_
  unfold f_Lv_begin at hf
  have hf := (zif hf).2
  refine z_aload_n C d_Lv_begin_0 rfl (z_pc (pc' := 1) rfl ?_)
  refine z_iload_n C d_Lv_begin_1 rfl (z_pc (pc' := 2) rfl ?_)
  obtain ⟨M1, h2, hf⟩ := zbind hf
  refine z_puti C fp_Lv_20 (by decide) rfl h2 d_Lv_begin_2 (z_pc (pc' := 5) rfl ?_)
  refine z_aload_n C d_Lv_begin_5 rfl (z_pc (pc' := 6) rfl ?_)
  refine z_iload_n C d_Lv_begin_6 rfl (z_pc (pc' := 7) rfl ?_)
  obtain ⟨M3, h4, hf⟩ := zbind hf
  refine z_puti C fp_Lv_23 (by decide) rfl h4 d_Lv_begin_7 (z_pc (pc' := 10) rfl ?_)
  refine z_aload_n C d_Lv_begin_10 rfl (z_pc (pc' := 11) rfl ?_)
  refine z_iconst C d_Lv_begin_11 (z_pc (pc' := 12) rfl ?_)
  obtain ⟨M5, h6, hf⟩ := zbind hf
  refine z_puti C fp_Lv_26 (by decide) rfl h6 d_Lv_begin_12 (z_pc (pc' := 15) rfl ?_)
  refine z_sub2 (w_Lv_begin_L15 C hr ?_ _  _ hf) (And.intro rfl (And.intro rfl trivial))
  intro M37 hf
  refine z_aload_n C d_Lv_begin_73 rfl (z_pc (pc' := 74) rfl ?_)
  obtain ⟨x38, h39, hf⟩ := zbind hf
  refine z_geti C fl_Lv_20 h39 d_Lv_begin_74 (z_pc (pc' := 77) rfl ?_)
  refine z_aload_n C d_Lv_begin_77 rfl (z_pc (pc' := 78) rfl ?_)
  obtain ⟨x40, h41, hf⟩ := zbind hf
  refine z_geti C fl_Lv_23 h41 d_Lv_begin_78 (z_pc (pc' := 81) rfl ?_)
  refine z_icmp_ge (tgt := 103) C d_Lv_begin_81 (by decide) (fun c42 => ?_) (fun c42 => z_pc (pc' := 84) rfl ?_)
  · have hf := zpos c42 hf
    exact z_vret C hr (Nat.le_of_ble_eq_true rfl) (Nat.le_of_ble_eq_true rfl) d_Lv_begin_103 hf
  · have hf := zneg c42 hf
    refine z_aload_n C d_Lv_begin_84 rfl (z_pc (pc' := 85) rfl ?_)
    refine z_aload_n C d_Lv_begin_85 rfl (z_pc (pc' := 86) rfl ?_)
    obtain ⟨x43, h44, hf⟩ := zbind hf
    refine z_getr C fl_Lv_9 rfl h44 d_Lv_begin_86 (z_pc (pc' := 89) rfl ?_)
    refine z_aload_n C d_Lv_begin_89 rfl (z_pc (pc' := 90) rfl ?_)
    obtain ⟨x45, h46, hf⟩ := zbind hf
    refine z_geti C fl_Lv_20 h46 d_Lv_begin_90 (z_pc (pc' := 93) rfl ?_)
    obtain ⟨x47, h48, hf⟩ := zbind hf
    refine z_aald C (by decide) h48 d_Lv_begin_93 (z_pc (pc' := 94) rfl ?_)
    refine z_iload_n C d_Lv_begin_94 rfl (z_pc (pc' := 95) rfl ?_)
    refine z_ldc C kc_Lv_40 d_Lv_begin_95 (z_pc (pc' := 97) rfl ?_)
    obtain ⟨x51, M50, h49, hf⟩ := zb2_inv hf
    refine z_callV C [zi a3, zi 2147483647] [zv n0 a0] kv_Lv_41 (c_Tb_place D n0 l h49) (e_Tb_place h49) ⟨(Nat.le_of_ble_eq_true rfl), (Nat.le_of_ble_eq_true rfl)⟩ (Nat.le_of_ble_eq_true rfl) ⟨(Nat.le_of_ble_eq_true rfl), (Nat.le_of_ble_eq_true rfl)⟩ d_Lv_begin_97 (z_pc (pc' := 100) rfl ?_)
    obtain ⟨M52, h53, hf⟩ := zbind hf
    refine z_puti C fp_Lv_26 (by decide) rfl h53 d_Lv_begin_100 (z_pc (pc' := 103) rfl ?_)
    exact z_vret C hr (Nat.le_of_ble_eq_true rfl) (Nat.le_of_ble_eq_true rfl) d_Lv_begin_103 hf
theorem e_Lv_look {a0 : Nat} {M : zHp} {q : Nat × zHp} (hf : f_Lv_look a0 M = some q) : zk M a0 = 5 := by
  unfold f_Lv_look at hf
  exact (zif hf).1
set_option maxHeartbeats 4000000 in
set_option maxRecDepth 100000 in
theorem c_Lv_look (D : va_G) (n0 : Nat) (l : Launch) {a0 : Nat} {M : zHp} {r : Nat} {M' : zHp} (hf : f_Lv_look a0 M = some (r, M')) : zM D n0 l y_Lv_look b_Lv_look 1 (some (.object "LayerVault$Entry")) 0 0 0 0 [zv n0 a0] M (some (zv n0 r)) M' := by
  refine zM.ofZ (by decide) (zcr zcn) (Nat.le_of_ble_eq_true rfl) ?_
  intro p e s m below meth c C hr hnm
  have C : zC D n0 p s m meth c b_Lv_look 1 "LayerVault$Level" := C
  refine z_eqL (L' := [some (zv n0 a0)]) rfl ?_
  unfold f_Lv_look at hf
  have hf := (zif hf).2
  refine z_aload_n C d_Lv_look_0 rfl (z_pc (pc' := 1) rfl ?_)
  obtain ⟨x1, h2, hf⟩ := zbind hf
  refine z_geti C fl_Lv_20 h2 d_Lv_look_1 (z_pc (pc' := 4) rfl ?_)
  refine z_aload_n C d_Lv_look_4 rfl (z_pc (pc' := 5) rfl ?_)
  obtain ⟨x3, h4, hf⟩ := zbind hf
  refine z_geti C fl_Lv_23 h4 d_Lv_look_5 (z_pc (pc' := 8) rfl ?_)
  refine z_icmp_ge (tgt := 31) C d_Lv_look_8 (by decide) (fun c5 => ?_) (fun c5 => z_pc (pc' := 11) rfl ?_)
  · have hf := zpos c5 hf
    refine z_null C d_Lv_look_31 (z_pc (pc' := 32) rfl ?_)
    exact z_aret C hr (Or.inl ⟨_, rfl⟩) (Nat.le_of_ble_eq_true rfl) (Nat.le_of_ble_eq_true rfl) d_Lv_look_32 hf
  · have hf := zneg c5 hf
    refine z_aload_n C d_Lv_look_11 rfl (z_pc (pc' := 12) rfl ?_)
    obtain ⟨x6, h7, hf⟩ := zbind hf
    refine z_getr C fl_Lv_9 rfl h7 d_Lv_look_12 (z_pc (pc' := 15) rfl ?_)
    refine z_aload_n C d_Lv_look_15 rfl (z_pc (pc' := 16) rfl ?_)
    obtain ⟨x8, h9, hf⟩ := zbind hf
    refine z_geti C fl_Lv_20 h9 d_Lv_look_16 (z_pc (pc' := 19) rfl ?_)
    obtain ⟨x10, h11, hf⟩ := zbind hf
    refine z_aald C (by decide) h11 d_Lv_look_19 (z_pc (pc' := 20) rfl ?_)
    obtain ⟨x12, h13, hf⟩ := zbind hf
    refine z_getr C fl_Lv_29 rfl h13 d_Lv_look_20 (z_pc (pc' := 23) rfl ?_)
    refine z_aload_n C d_Lv_look_23 rfl (z_pc (pc' := 24) rfl ?_)
    obtain ⟨x14, h15, hf⟩ := zbind hf
    refine z_geti C fl_Lv_26 h15 d_Lv_look_24 (z_pc (pc' := 27) rfl ?_)
    obtain ⟨x16, h17, hf⟩ := zbind hf
    refine z_aald C (by decide) h17 d_Lv_look_27 (z_pc (pc' := 28) rfl ?_)
    refine z_goto (tgt := 32) C d_Lv_look_28 (by decide) ?_
    exact z_aret C hr (Or.inl ⟨_, rfl⟩) (Nat.le_of_ble_eq_true rfl) (Nat.le_of_ble_eq_true rfl) d_Lv_look_32 hf
theorem e_Lv_step {a0 : Nat} {M : zHp} {q : zHp} (hf : f_Lv_step a0 M = some q) : zk M a0 = 5 := by
  unfold f_Lv_step at hf
  exact (zif hf).1
set_option maxHeartbeats 4000000 in
set_option maxRecDepth 100000 in
theorem c_Lv_step (D : va_G) (n0 : Nat) (l : Launch) {a0 : Nat} {M : zHp} {M' : zHp} (hf : f_Lv_step a0 M = some M') : zM D n0 l y_Lv_step b_Lv_step 1 none 0 0 0 0 [zv n0 a0] M none M' := by
  refine zM.ofZ (by decide) (zcr zcn) (Nat.le_of_ble_eq_true rfl) ?_
  intro p e s m below meth c C hr hnm
  have C : zC D n0 p s m meth c b_Lv_step 1 "LayerVault$Level" := C
  refine z_eqL (L' := [some (zv n0 a0)]) rfl ?_
  unfold f_Lv_step at hf
  have hf := (zif hf).2
  refine z_aload_n C d_Lv_step_0 rfl (z_pc (pc' := 1) rfl ?_)
  refine z_dupr C d_Lv_step_1 (z_pc (pc' := 2) rfl ?_)
  obtain ⟨x1, h2, hf⟩ := zbind hf
  refine z_geti C fl_Lv_26 h2 d_Lv_step_2 (z_pc (pc' := 5) rfl ?_)
  refine z_iconst C d_Lv_step_5 (z_pc (pc' := 6) rfl ?_)
  refine z_iadd C d_Lv_step_6 (z_pc (pc' := 7) rfl ?_)
  obtain ⟨M3, h4, hf⟩ := zbind hf
  refine z_puti C fp_Lv_26 (by decide) rfl h4 d_Lv_step_7 (z_pc (pc' := 10) rfl ?_)
  refine z_aload_n C d_Lv_step_10 rfl (z_pc (pc' := 11) rfl ?_)
  obtain ⟨x5, h6, hf⟩ := zbind hf
  refine z_geti C fl_Lv_26 h6 d_Lv_step_11 (z_pc (pc' := 14) rfl ?_)
  refine z_aload_n C d_Lv_step_14 rfl (z_pc (pc' := 15) rfl ?_)
  obtain ⟨x7, h8, hf⟩ := zbind hf
  refine z_getr C fl_Lv_9 rfl h8 d_Lv_step_15 (z_pc (pc' := 18) rfl ?_)
  refine z_aload_n C d_Lv_step_18 rfl (z_pc (pc' := 19) rfl ?_)
  obtain ⟨x9, h10, hf⟩ := zbind hf
  refine z_geti C fl_Lv_20 h10 d_Lv_step_19 (z_pc (pc' := 22) rfl ?_)
  obtain ⟨x11, h12, hf⟩ := zbind hf
  refine z_aald C (by decide) h12 d_Lv_step_22 (z_pc (pc' := 23) rfl ?_)
  obtain ⟨x13, h14, hf⟩ := zbind hf
  refine z_geti C fl_Lv_19 h14 d_Lv_step_23 (z_pc (pc' := 26) rfl ?_)
  refine z_icmp_ne (tgt := 44) C d_Lv_step_26 (by decide) (fun c15 => ?_) (fun c15 => z_pc (pc' := 29) rfl ?_)
  · have hf := zneg c15 hf
    exact z_vret C hr (Nat.le_of_ble_eq_true rfl) (Nat.le_of_ble_eq_true rfl) d_Lv_step_44 hf
  · have hf := zpos c15 hf
    refine z_aload_n C d_Lv_step_29 rfl (z_pc (pc' := 30) rfl ?_)
    refine z_iconst C d_Lv_step_30 (z_pc (pc' := 31) rfl ?_)
    obtain ⟨M16, h17, hf⟩ := zbind hf
    refine z_puti C fp_Lv_26 (by decide) rfl h17 d_Lv_step_31 (z_pc (pc' := 34) rfl ?_)
    refine z_aload_n C d_Lv_step_34 rfl (z_pc (pc' := 35) rfl ?_)
    refine z_dupr C d_Lv_step_35 (z_pc (pc' := 36) rfl ?_)
    obtain ⟨x18, h19, hf⟩ := zbind hf
    refine z_geti C fl_Lv_20 h19 d_Lv_step_36 (z_pc (pc' := 39) rfl ?_)
    refine z_iconst C d_Lv_step_39 (z_pc (pc' := 40) rfl ?_)
    refine z_iadd C d_Lv_step_40 (z_pc (pc' := 41) rfl ?_)
    obtain ⟨M20, h21, hf⟩ := zbind hf
    refine z_puti C fp_Lv_20 (by decide) rfl h21 d_Lv_step_41 (z_pc (pc' := 44) rfl ?_)
    exact z_vret C hr (Nat.le_of_ble_eq_true rfl) (Nat.le_of_ble_eq_true rfl) d_Lv_step_44 hf
set_option maxHeartbeats 4000000 in
set_option maxRecDepth 100000 in
theorem c_Sg_init (D : va_G) (n0 : Nat) (l : Launch) {a0 : Nat} {M : zHp} {M' : zHp} (h0 : 0 < a0) (hf : f_Sg_init a0 M = some M') : zM D n0 l y_Sg_init b_Sg_init 1 none 1 20 0 0 [zv n0 a0] M none M' := by
  refine zM.ofZ (by decide) (zcr zcn) (Nat.le_of_ble_eq_true rfl) ?_
  intro p e s m below meth c C hr hnm
  have C : zC D n0 p s m meth c b_Sg_init 1 "LayerVault$Single" := C
  have hnm : meth.name = "<init>" := hnm
  refine z_eqL (L' := [some (zv n0 a0)]) rfl ?_
  unfold f_Sg_init at hf
  refine z_aload_n C d_Sg_init_0 rfl (z_pc (pc' := 1) rfl ?_)
  refine z_objInit C h0 kj_Sg_1 kj_inst kj_code ⟨(Nat.le_of_ble_eq_true rfl), (Nat.le_of_ble_eq_true rfl)⟩ (Nat.le_of_ble_eq_true rfl) d_Sg_init_1 (z_pc (pc' := 4) rfl ?_)
  exact z_vret C hr (Nat.le_of_ble_eq_true rfl) (Nat.le_of_ble_eq_true rfl) d_Sg_init_4 hf
theorem e_Sg_begin {a0 : Nat} {a1 : Nat} {a2 : Int} {M : zHp} {q : zHp} (hf : f_Sg_begin a0 a1 a2 M = some q) : zk M a0 = 6 := by
  unfold f_Sg_begin at hf
  exact (zif hf).1
set_option maxHeartbeats 4000000 in
set_option maxRecDepth 100000 in
theorem c_Sg_begin (D : va_G) (n0 : Nat) (l : Launch) {a0 : Nat} {a1 : Nat} {a2 : Int} {M : zHp} {M' : zHp} (hf : f_Sg_begin a0 a1 a2 M = some M') : zM D n0 l y_Sg_begin b_Sg_begin 3 none 2 47 0 0 [zv n0 a0, zv n0 a1, zi a2] M none M' := by
  refine zM.ofZ (by decide) (zcr (zcr (zci zcn))) (Nat.le_of_ble_eq_true rfl) ?_
  intro p e s m below meth c C hr hnm
  have C : zC D n0 p s m meth c b_Sg_begin 3 "LayerVault$Single" := C
  refine z_eqL (L' := [some (zv n0 a0), some (zv n0 a1), some (zi a2)]) rfl ?_
  unfold f_Sg_begin at hf
  have hf := (zif hf).2
  refine z_aload_n C d_Sg_begin_0 rfl (z_pc (pc' := 1) rfl ?_)
  refine z_aload_n C d_Sg_begin_1 rfl (z_pc (pc' := 2) rfl ?_)
  obtain ⟨M1, h2, hf⟩ := zbind hf
  refine z_putr C fp_Sg_7 rfl (by decide) rfl h2 d_Sg_begin_2 (z_pc (pc' := 5) rfl ?_)
  refine z_aload_n C d_Sg_begin_5 rfl (z_pc (pc' := 6) rfl ?_)
  refine z_aload_n C d_Sg_begin_6 rfl (z_pc (pc' := 7) rfl ?_)
  refine z_ifnonnull (tgt := 14) C d_Sg_begin_7 (by decide) (fun c3 => ?_) (fun c3 => (z_pc (pc' := 10) rfl ?_))
  · have hf := zneg c3 hf
    refine z_aload_n C d_Sg_begin_14 rfl (z_pc (pc' := 15) rfl ?_)
    refine z_iload_n C d_Sg_begin_15 rfl (z_pc (pc' := 16) rfl ?_)
    refine z_ldc C kc_Sg_15 d_Sg_begin_16 (z_pc (pc' := 18) rfl ?_)
    obtain ⟨x6, M5, h4, hf⟩ := zb2_inv hf
    refine z_callV C [zi a2, zi 2147483647] [zv n0 a0] kv_Sg_16 (c_Tb_place D n0 l h4) (e_Tb_place h4) ⟨(Nat.le_of_ble_eq_true rfl), (Nat.le_of_ble_eq_true rfl)⟩ (Nat.le_of_ble_eq_true rfl) ⟨(Nat.le_of_ble_eq_true rfl), (Nat.le_of_ble_eq_true rfl)⟩ d_Sg_begin_18 (z_pc (pc' := 21) rfl ?_)
    obtain ⟨M7, h8, hf⟩ := zbind hf
    refine z_puti C fp_Sg_22 (by decide) rfl h8 d_Sg_begin_21 (z_pc (pc' := 24) rfl ?_)
    exact z_vret C hr (Nat.le_of_ble_eq_true rfl) (Nat.le_of_ble_eq_true rfl) d_Sg_begin_24 hf
  · have hf := zpos c3 hf
    refine z_iconst C d_Sg_begin_10 (z_pc (pc' := 11) rfl ?_)
    refine z_goto (tgt := 21) C d_Sg_begin_11 (by decide) ?_
    obtain ⟨M9, h10, hf⟩ := zbind hf
    refine z_puti C fp_Sg_22 (by decide) rfl h10 d_Sg_begin_21 (z_pc (pc' := 24) rfl ?_)
    exact z_vret C hr (Nat.le_of_ble_eq_true rfl) (Nat.le_of_ble_eq_true rfl) d_Sg_begin_24 hf
theorem e_Sg_look {a0 : Nat} {M : zHp} {q : Nat × zHp} (hf : f_Sg_look a0 M = some q) : zk M a0 = 6 := by
  unfold f_Sg_look at hf
  exact (zif hf).1
set_option maxHeartbeats 4000000 in
set_option maxRecDepth 100000 in
theorem c_Sg_look (D : va_G) (n0 : Nat) (l : Launch) {a0 : Nat} {M : zHp} {r : Nat} {M' : zHp} (hf : f_Sg_look a0 M = some (r, M')) : zM D n0 l y_Sg_look b_Sg_look 1 (some (.object "LayerVault$Entry")) 0 0 0 0 [zv n0 a0] M (some (zv n0 r)) M' := by
  refine zM.ofZ (by decide) (zcr zcn) (Nat.le_of_ble_eq_true rfl) ?_
  intro p e s m below meth c C hr hnm
  have C : zC D n0 p s m meth c b_Sg_look 1 "LayerVault$Single" := C
  refine z_eqL (L' := [some (zv n0 a0)]) rfl ?_
  unfold f_Sg_look at hf
  have hf := (zif hf).2
  refine z_aload_n C d_Sg_look_0 rfl (z_pc (pc' := 1) rfl ?_)
  obtain ⟨x1, h2, hf⟩ := zbind hf
  refine z_getr C fl_Sg_7 rfl h2 d_Sg_look_1 (z_pc (pc' := 4) rfl ?_)
  refine z_ifnull (tgt := 36) C d_Sg_look_4 (by decide) (fun c3 => ?_) (fun c3 => (z_pc (pc' := 7) rfl ?_))
  · have hf := zpos c3 hf
    refine z_null C d_Sg_look_36 (z_pc (pc' := 37) rfl ?_)
    exact z_aret C hr (Or.inl ⟨_, rfl⟩) (Nat.le_of_ble_eq_true rfl) (Nat.le_of_ble_eq_true rfl) d_Sg_look_37 hf
  · have hf := zneg c3 hf
    refine z_aload_n C d_Sg_look_7 rfl (z_pc (pc' := 8) rfl ?_)
    obtain ⟨x4, h5, hf⟩ := zbind hf
    refine z_geti C fl_Sg_22 h5 d_Sg_look_8 (z_pc (pc' := 11) rfl ?_)
    refine z_aload_n C d_Sg_look_11 rfl (z_pc (pc' := 12) rfl ?_)
    obtain ⟨x6, h7, hf⟩ := zbind hf
    refine z_getr C fl_Sg_7 rfl h7 d_Sg_look_12 (z_pc (pc' := 15) rfl ?_)
    obtain ⟨x8, h9, hf⟩ := zbind hf
    refine z_geti C fl_Sg_26 h9 d_Sg_look_15 (z_pc (pc' := 18) rfl ?_)
    refine z_icmp_ge (tgt := 36) C d_Sg_look_18 (by decide) (fun c10 => ?_) (fun c10 => z_pc (pc' := 21) rfl ?_)
    · have hf := zpos c10 hf
      refine z_null C d_Sg_look_36 (z_pc (pc' := 37) rfl ?_)
      exact z_aret C hr (Or.inl ⟨_, rfl⟩) (Nat.le_of_ble_eq_true rfl) (Nat.le_of_ble_eq_true rfl) d_Sg_look_37 hf
    · have hf := zneg c10 hf
      refine z_aload_n C d_Sg_look_21 rfl (z_pc (pc' := 22) rfl ?_)
      obtain ⟨x11, h12, hf⟩ := zbind hf
      refine z_getr C fl_Sg_7 rfl h12 d_Sg_look_22 (z_pc (pc' := 25) rfl ?_)
      obtain ⟨x13, h14, hf⟩ := zbind hf
      refine z_getr C fl_Sg_29 rfl h14 d_Sg_look_25 (z_pc (pc' := 28) rfl ?_)
      refine z_aload_n C d_Sg_look_28 rfl (z_pc (pc' := 29) rfl ?_)
      obtain ⟨x15, h16, hf⟩ := zbind hf
      refine z_geti C fl_Sg_22 h16 d_Sg_look_29 (z_pc (pc' := 32) rfl ?_)
      obtain ⟨x17, h18, hf⟩ := zbind hf
      refine z_aald C (by decide) h18 d_Sg_look_32 (z_pc (pc' := 33) rfl ?_)
      refine z_goto (tgt := 37) C d_Sg_look_33 (by decide) ?_
      exact z_aret C hr (Or.inl ⟨_, rfl⟩) (Nat.le_of_ble_eq_true rfl) (Nat.le_of_ble_eq_true rfl) d_Sg_look_37 hf
theorem e_Sg_step {a0 : Nat} {M : zHp} {q : zHp} (hf : f_Sg_step a0 M = some q) : zk M a0 = 6 := by
  unfold f_Sg_step at hf
  exact (zif hf).1
set_option maxHeartbeats 4000000 in
set_option maxRecDepth 100000 in
theorem c_Sg_step (D : va_G) (n0 : Nat) (l : Launch) {a0 : Nat} {M : zHp} {M' : zHp} (hf : f_Sg_step a0 M = some M') : zM D n0 l y_Sg_step b_Sg_step 1 none 0 0 0 0 [zv n0 a0] M none M' := by
  refine zM.ofZ (by decide) (zcr zcn) (Nat.le_of_ble_eq_true rfl) ?_
  intro p e s m below meth c C hr hnm
  have C : zC D n0 p s m meth c b_Sg_step 1 "LayerVault$Single" := C
  refine z_eqL (L' := [some (zv n0 a0)]) rfl ?_
  unfold f_Sg_step at hf
  have hf := (zif hf).2
  refine z_aload_n C d_Sg_step_0 rfl (z_pc (pc' := 1) rfl ?_)
  refine z_dupr C d_Sg_step_1 (z_pc (pc' := 2) rfl ?_)
  obtain ⟨x1, h2, hf⟩ := zbind hf
  refine z_geti C fl_Sg_22 h2 d_Sg_step_2 (z_pc (pc' := 5) rfl ?_)
  refine z_iconst C d_Sg_step_5 (z_pc (pc' := 6) rfl ?_)
  refine z_iadd C d_Sg_step_6 (z_pc (pc' := 7) rfl ?_)
  obtain ⟨M3, h4, hf⟩ := zbind hf
  refine z_puti C fp_Sg_22 (by decide) rfl h4 d_Sg_step_7 (z_pc (pc' := 10) rfl ?_)
  exact z_vret C hr (Nat.le_of_ble_eq_true rfl) (Nat.le_of_ble_eq_true rfl) d_Sg_step_10 hf
theorem kf_Mg_19_Mt : zNf "LayerVault$Merger" 19 ⟨"LayerVault$Cursor", "look", "()LLayerVault$Entry;"⟩ y_Mt_look b_Mt_look 1 (some (.object "LayerVault$Entry")) 3 0 := ⟨_, rfl, (zmem 353 (by decide +kernel) rfl), (zmem 337 (by decide +kernel) rfl), (zmem 339 (by decide +kernel) rfl), (zmem 341 (by decide +kernel) rfl), (zmem 3 (by decide +kernel) rfl), ⟨by decide +kernel, by decide +kernel, by decide +kernel⟩, List.mem_of_getElem? (i := 0) rfl⟩
theorem kf_Mg_19_Lv : zNf "LayerVault$Merger" 19 ⟨"LayerVault$Cursor", "look", "()LLayerVault$Entry;"⟩ y_Lv_look b_Lv_look 1 (some (.object "LayerVault$Entry")) 5 0 := ⟨_, rfl, (zmem 353 (by decide +kernel) rfl), (zmem 331 (by decide +kernel) rfl), (zmem 333 (by decide +kernel) rfl), (zmem 335 (by decide +kernel) rfl), (zmem 6 (by decide +kernel) rfl), ⟨by decide +kernel, by decide +kernel, by decide +kernel⟩, List.mem_of_getElem? (i := 1) rfl⟩
theorem kf_Mg_19_Sg : zNf "LayerVault$Merger" 19 ⟨"LayerVault$Cursor", "look", "()LLayerVault$Entry;"⟩ y_Sg_look b_Sg_look 1 (some (.object "LayerVault$Entry")) 6 0 := ⟨_, rfl, (zmem 353 (by decide +kernel) rfl), (zmem 355 (by decide +kernel) rfl), (zmem 357 (by decide +kernel) rfl), (zmem 359 (by decide +kernel) rfl), (zmem 7 (by decide +kernel) rfl), ⟨by decide +kernel, by decide +kernel, by decide +kernel⟩, List.mem_of_getElem? (i := 2) rfl⟩
theorem n3_Mg_19 {D : va_G} {n0 : Nat} {p : Program} {l : Launch} {e : Env} {R : Room} {s : State} {m : MethodId} {args : Array Value} {below : List Frame} {meth : Method} {c : Code} {cells slots : Nat} {Q : State → Prop} {cc : ByteArray} {nL : Nat} {pc : Nat} {L : List (Option Value)} {M M1 : zHp} {b cnt : Nat} {r : Nat} (C : zC D n0 p s m meth c cc nL "LayerVault$Merger") (rest : List Value) (h : fi3_look b M = some (r, M1)) (hRm : 1 ≤ R.frames ∧ 20 ≤ R.locals) (hst : rest.length ≤ 4) (hf : cells + 0 ≤ R.cells ∧ slots + 0 ≤ R.slots) (hd : decode cc pc = .ok (.invokeinterface 19 cnt, 5)) (kk : zZ D n0 p l e R s m args below meth c nL cells slots Q (pc + 5) L (zv n0 r :: rest) M1) : zZ D n0 p l e R s m args below meth c nL cells slots Q pc L (zv n0 b :: rest) M := by
  unfold fi3_look at h
  by_cases h0 : zk M b = 3
  · have h := zpos h0 h
    exact z_callN C [] rest kf_Mg_19_Mt (c_Mt_look D n0 l h) h0 ⟨by omega, by omega⟩ hst hf hd kk
  have h := zneg h0 h
  by_cases h1 : zk M b = 5
  · have h := zpos h1 h
    exact z_callN C [] rest kf_Mg_19_Lv (c_Lv_look D n0 l h) h1 ⟨by omega, by omega⟩ hst hf hd kk
  have h := zneg h1 h
  by_cases h2 : zk M b = 6
  · have h := zpos h2 h
    exact z_callN C [] rest kf_Mg_19_Sg (c_Sg_look D n0 l h) h2 ⟨by omega, by omega⟩ hst hf hd kk
  have h := zneg h2 h
  cases h
theorem kf_Mg_39_Mt : zNf "LayerVault$Merger" 39 ⟨"LayerVault$Cursor", "step", "()V"⟩ y_Mt_step b_Mt_step 1 none 3 0 := ⟨_, rfl, (zmem 381 (by decide +kernel) rfl), (zmem 370 (by decide +kernel) rfl), (zmem 372 (by decide +kernel) rfl), (zmem 374 (by decide +kernel) rfl), (zmem 3 (by decide +kernel) rfl), ⟨by decide +kernel, by decide +kernel, by decide +kernel⟩, List.mem_of_getElem? (i := 4) rfl⟩
theorem kf_Mg_39_Lv : zNf "LayerVault$Merger" 39 ⟨"LayerVault$Cursor", "step", "()V"⟩ y_Lv_step b_Lv_step 1 none 5 0 := ⟨_, rfl, (zmem 381 (by decide +kernel) rfl), (zmem 365 (by decide +kernel) rfl), (zmem 367 (by decide +kernel) rfl), (zmem 369 (by decide +kernel) rfl), (zmem 6 (by decide +kernel) rfl), ⟨by decide +kernel, by decide +kernel, by decide +kernel⟩, List.mem_of_getElem? (i := 5) rfl⟩
theorem kf_Mg_39_Sg : zNf "LayerVault$Merger" 39 ⟨"LayerVault$Cursor", "step", "()V"⟩ y_Sg_step b_Sg_step 1 none 6 0 := ⟨_, rfl, (zmem 381 (by decide +kernel) rfl), (zmem 382 (by decide +kernel) rfl), (zmem 384 (by decide +kernel) rfl), (zmem 386 (by decide +kernel) rfl), (zmem 7 (by decide +kernel) rfl), ⟨by decide +kernel, by decide +kernel, by decide +kernel⟩, List.mem_of_getElem? (i := 6) rfl⟩
theorem n3_Mg_39 {D : va_G} {n0 : Nat} {p : Program} {l : Launch} {e : Env} {R : Room} {s : State} {m : MethodId} {args : Array Value} {below : List Frame} {meth : Method} {c : Code} {cells slots : Nat} {Q : State → Prop} {cc : ByteArray} {nL : Nat} {pc : Nat} {L : List (Option Value)} {M M1 : zHp} {b cnt : Nat} (C : zC D n0 p s m meth c cc nL "LayerVault$Merger") (rest : List Value) (h : fi3_step b M = some M1) (hRm : 1 ≤ R.frames ∧ 20 ≤ R.locals) (hst : rest.length ≤ 4) (hf : cells + 0 ≤ R.cells ∧ slots + 0 ≤ R.slots) (hd : decode cc pc = .ok (.invokeinterface 39 cnt, 5)) (kk : zZ D n0 p l e R s m args below meth c nL cells slots Q (pc + 5) L (rest) M1) : zZ D n0 p l e R s m args below meth c nL cells slots Q pc L (zv n0 b :: rest) M := by
  unfold fi3_step at h
  by_cases h0 : zk M b = 3
  · have h := zpos h0 h
    exact z_callN C [] rest kf_Mg_39_Mt (c_Mt_step D n0 l h) h0 ⟨by omega, by omega⟩ hst hf hd kk
  have h := zneg h0 h
  by_cases h1 : zk M b = 5
  · have h := zpos h1 h
    exact z_callN C [] rest kf_Mg_39_Lv (c_Lv_step D n0 l h) h1 ⟨by omega, by omega⟩ hst hf hd kk
  have h := zneg h1 h
  by_cases h2 : zk M b = 6
  · have h := zpos h2 h
    exact z_callN C [] rest kf_Mg_39_Sg (c_Sg_step D n0 l h) h2 ⟨by omega, by omega⟩ hst hf hd kk
  have h := zneg h2 h
  cases h
set_option maxHeartbeats 4000000 in
set_option maxRecDepth 100000 in
theorem c_Mg_init (D : va_G) (n0 : Nat) (l : Launch) {a0 : Nat} {M : zHp} {M' : zHp} (h0 : 0 < a0) (hf : f_Mg_init a0 M = some M') : zM D n0 l y_Mg_init b_Mg_init 1 none 1 20 1 8 [zv n0 a0] M none M' := by
  refine zM.ofZ (by decide) (zcr zcn) (Nat.le_of_ble_eq_true rfl) ?_
  intro p e s m below meth c C hr hnm
  have C : zC D n0 p s m meth c b_Mg_init 1 "LayerVault$Merger" := C
  have hnm : meth.name = "<init>" := hnm
  refine z_eqL (L' := [some (zv n0 a0)]) rfl ?_
  unfold f_Mg_init at hf
  refine z_aload_n C d_Mg_init_0 rfl (z_pc (pc' := 1) rfl ?_)
  refine z_objInit C h0 kj_Mg_1 kj_inst kj_code ⟨(Nat.le_of_ble_eq_true rfl), (Nat.le_of_ble_eq_true rfl)⟩ (Nat.le_of_ble_eq_true rfl) d_Mg_init_1 (z_pc (pc' := 4) rfl ?_)
  refine z_aload_n C d_Mg_init_4 rfl (z_pc (pc' := 5) rfl ?_)
  refine z_bipush C d_Mg_init_5 (by decide) (z_pc (pc' := 7) rfl ?_)
  obtain ⟨x1, M3, h2, hf⟩ := zb2_inv hf
  refine z_newR C (by decide) rfl (by decide) kl_Mg_7 ko_Cur h2 (Nat.le_of_ble_eq_true rfl) (Nat.le_of_ble_eq_true rfl) d_Mg_init_7 (z_pc (pc' := 10) rfl ?_)
  obtain ⟨M4, h5, hf⟩ := zbind hf
  refine z_putfr C hnm ff_Mg_9 rfl (by decide) rfl h5 d_Mg_init_10 (z_pc (pc' := 13) rfl ?_)
  exact z_vret C hr (Nat.le_of_ble_eq_true rfl) (Nat.le_of_ble_eq_true rfl) d_Mg_init_13 hf
theorem e_Mg_add {a0 : Nat} {a1 : Nat} {M : zHp} {q : zHp} (hf : f_Mg_add a0 a1 M = some q) : zk M a0 = 7 := by
  unfold f_Mg_add at hf
  exact (zif hf).1
set_option maxHeartbeats 4000000 in
set_option maxRecDepth 100000 in
theorem c_Mg_add (D : va_G) (n0 : Nat) (l : Launch) {a0 : Nat} {a1 : Nat} {M : zHp} {M' : zHp} (hf : f_Mg_add a0 a1 M = some M') : zM D n0 l y_Mg_add b_Mg_add 2 none 0 0 0 0 [zv n0 a0, zv n0 a1] M none M' := by
  refine zM.ofZ (by decide) (zcr (zcr zcn)) (Nat.le_of_ble_eq_true rfl) ?_
  intro p e s m below meth c C hr hnm
  have C : zC D n0 p s m meth c b_Mg_add 2 "LayerVault$Merger" := C
  refine z_eqL (L' := [some (zv n0 a0), some (zv n0 a1)]) rfl ?_
  unfold f_Mg_add at hf
  have hf := (zif hf).2
  refine z_aload_n C d_Mg_add_0 rfl (z_pc (pc' := 1) rfl ?_)
  obtain ⟨x1, h2, hf⟩ := zbind hf
  refine z_getr C fl_Mg_9 rfl h2 d_Mg_add_1 (z_pc (pc' := 4) rfl ?_)
  refine z_aload_n C d_Mg_add_4 rfl (z_pc (pc' := 5) rfl ?_)
  obtain ⟨x3, h4, hf⟩ := zbind hf
  refine z_geti C fl_Mg_15 h4 d_Mg_add_5 (z_pc (pc' := 8) rfl ?_)
  refine z_aload_n C d_Mg_add_8 rfl (z_pc (pc' := 9) rfl ?_)
  obtain ⟨M5, h6, hf⟩ := zbind hf
  refine z_aast C (by decide) h6 d_Mg_add_9 (z_pc (pc' := 10) rfl ?_)
  refine z_aload_n C d_Mg_add_10 rfl (z_pc (pc' := 11) rfl ?_)
  refine z_dupr C d_Mg_add_11 (z_pc (pc' := 12) rfl ?_)
  obtain ⟨x7, h8, hf⟩ := zbind hf
  refine z_geti C fl_Mg_15 h8 d_Mg_add_12 (z_pc (pc' := 15) rfl ?_)
  refine z_iconst C d_Mg_add_15 (z_pc (pc' := 16) rfl ?_)
  refine z_iadd C d_Mg_add_16 (z_pc (pc' := 17) rfl ?_)
  obtain ⟨M9, h10, hf⟩ := zbind hf
  refine z_puti C fp_Mg_15 (by decide) rfl h10 d_Mg_add_17 (z_pc (pc' := 20) rfl ?_)
  exact z_vret C hr (Nat.le_of_ble_eq_true rfl) (Nat.le_of_ble_eq_true rfl) d_Mg_add_20 hf
set_option maxHeartbeats 4000000 in
set_option maxRecDepth 100000 in
theorem w_Mg_least_L4 {D : va_G} {n0 : Nat} {l : Launch} {p : Program} {e : Env} {s : State} {m : MethodId} {args : Array Value} {below : List Frame} {meth : Method} {c : Code} {a0 : Nat} {r : Nat} {M' : zHp} {κ : Nat → zHp → Option (Nat × zHp)} (C : zC D n0 p s m meth c b_Mg_least 4 "LayerVault$Merger") (hr : meth.sig.returnType = (some (.object "LayerVault$Cursor")))
    (hκ : ∀ (u1 : Nat) (M1 : zHp), κ u1 M1 = some (r, M') → zZ D n0 p l e { frames := 1, cells := 0, slots := 0, locals := 22 } s m args below meth c 4 0 0 (MQ below (zQc D n0 (some (zv n0 r)) M') args s 0 0 (fun q => n0 ≤ q)) 73 [none, some (zv n0 u1), none, none] [] M1) :
    ∀ (n : Nat) (v1 : Nat) (v2 : Int) (M : zHp), f_Mg_least_L4 κ a0 n v1 v2 M = some (r, M') → zZ D n0 p l e { frames := 1, cells := 0, slots := 0, locals := 22 } s m args below meth c 4 0 0 (MQ below (zQc D n0 (some (zv n0 r)) M') args s 0 0 (fun q => n0 ≤ q)) 4 [some (zv n0 a0), some (zv n0 v1), some (zi v2), none] [] M := by
  intro n
  induction n with
  | zero =>
    intro v1 v2 M hf
    exact absurd hf (by unfold f_Mg_least_L4; simp)
  | succ n ih =>
    intro v1 v2 M hf
    unfold f_Mg_least_L4 at hf
    refine z_iload_n C d_Mg_least_4 rfl (z_pc (pc' := 5) rfl ?_)
    refine z_aload_n C d_Mg_least_5 rfl (z_pc (pc' := 6) rfl ?_)
    obtain ⟨x1, h2, hf⟩ := zbind hf
    refine z_geti C fl_Mg_15 h2 d_Mg_least_6 (z_pc (pc' := 9) rfl ?_)
    refine z_icmp_ge (tgt := 73) C d_Mg_least_9 (by decide) (fun c3 => ?_) (fun c3 => z_pc (pc' := 12) rfl ?_)
    · have hf := zpos c3 hf
      exact z_sub2 (hκ _ _ hf) (And.intro rfl trivial)
    · have hf := zneg c3 hf
      refine z_aload_n C d_Mg_least_12 rfl (z_pc (pc' := 13) rfl ?_)
      obtain ⟨x4, h5, hf⟩ := zbind hf
      refine z_getr C fl_Mg_9 rfl h5 d_Mg_least_13 (z_pc (pc' := 16) rfl ?_)
      refine z_iload_n C d_Mg_least_16 rfl (z_pc (pc' := 17) rfl ?_)
      obtain ⟨x6, h7, hf⟩ := zbind hf
      refine z_aald C (by decide) h7 d_Mg_least_17 (z_pc (pc' := 18) rfl ?_)
      obtain ⟨x10, M9, h8, hf⟩ := zb2_inv hf
      refine n3_Mg_19 C [] h8 ⟨(Nat.le_of_ble_eq_true rfl), (Nat.le_of_ble_eq_true rfl)⟩ (Nat.le_of_ble_eq_true rfl) ⟨(Nat.le_of_ble_eq_true rfl), (Nat.le_of_ble_eq_true rfl)⟩ d_Mg_least_18 (z_pc (pc' := 23) rfl ?_)
      refine z_astore_n C d_Mg_least_23 (by decide) (z_pl (pc' := 24) (L' := [some (zv n0 a0), some (zv n0 v1), some (zi v2), some (zv n0 x10)]) rfl rfl ?_)
      refine z_aload_n C d_Mg_least_24 rfl (z_pc (pc' := 25) rfl ?_)
      refine z_ifnonnull (tgt := 31) C d_Mg_least_25 (by decide) (fun c11 => ?_) (fun c11 => (z_pc (pc' := 28) rfl ?_))
      · have hf := zneg c11 hf
        refine z_aload_n C d_Mg_least_31 rfl (z_pc (pc' := 32) rfl ?_)
        refine z_ifnull (tgt := 60) C d_Mg_least_32 (by decide) (fun c12 => ?_) (fun c12 => (z_pc (pc' := 35) rfl ?_))
        · have hf := zpos c12 hf
          refine z_aload_n C d_Mg_least_60 rfl (z_pc (pc' := 61) rfl ?_)
          obtain ⟨x13, h14, hf⟩ := zbind hf
          refine z_getr C fl_Mg_9 rfl h14 d_Mg_least_61 (z_pc (pc' := 64) rfl ?_)
          refine z_iload_n C d_Mg_least_64 rfl (z_pc (pc' := 65) rfl ?_)
          obtain ⟨x15, h16, hf⟩ := zbind hf
          refine z_aald C (by decide) h16 d_Mg_least_65 (z_pc (pc' := 66) rfl ?_)
          refine z_astore_n C d_Mg_least_66 (by decide) (z_pl (pc' := 67) (L' := [some (zv n0 a0), some (zv n0 x15), some (zi v2), some (zv n0 x10)]) rfl rfl ?_)
          refine z_iinc C d_Mg_least_67 rfl (by decide) (z_pl (pc' := 70) (L' := [some (zv n0 a0), some (zv n0 x15), some (zi (zadd v2 1)), some (zv n0 x10)]) rfl rfl ?_)
          refine z_goto (tgt := 4) C d_Mg_least_70 (by decide) ?_
          exact z_sub2 (ih _ _ _ hf) (And.intro rfl (And.intro rfl (And.intro rfl trivial)))
        · have hf := zneg c12 hf
          refine z_aload_n C d_Mg_least_35 rfl (z_pc (pc' := 36) rfl ?_)
          refine z_aload_n C d_Mg_least_36 rfl (z_pc (pc' := 37) rfl ?_)
          obtain ⟨x19, M18, h17, hf⟩ := zb2_inv hf
          refine n3_Mg_19 C [zv n0 x10] h17 ⟨(Nat.le_of_ble_eq_true rfl), (Nat.le_of_ble_eq_true rfl)⟩ (Nat.le_of_ble_eq_true rfl) ⟨(Nat.le_of_ble_eq_true rfl), (Nat.le_of_ble_eq_true rfl)⟩ d_Mg_least_37 (z_pc (pc' := 42) rfl ?_)
          obtain ⟨x20, h21, hf⟩ := zbind hf
          refine z_geti C fl_Mg_23 h21 d_Mg_least_42 (z_pc (pc' := 45) rfl ?_)
          refine z_aload_n C d_Mg_least_45 rfl (z_pc (pc' := 46) rfl ?_)
          obtain ⟨x24, M23, h22, hf⟩ := zb2_inv hf
          refine n3_Mg_19 C [zi x20, zv n0 x10] h22 ⟨(Nat.le_of_ble_eq_true rfl), (Nat.le_of_ble_eq_true rfl)⟩ (Nat.le_of_ble_eq_true rfl) ⟨(Nat.le_of_ble_eq_true rfl), (Nat.le_of_ble_eq_true rfl)⟩ d_Mg_least_46 (z_pc (pc' := 51) rfl ?_)
          obtain ⟨x25, h26, hf⟩ := zbind hf
          refine z_geti C fl_Mg_28 h26 d_Mg_least_51 (z_pc (pc' := 54) rfl ?_)
          obtain ⟨x29, M28, h27, hf⟩ := zb2_inv hf
          refine z_callV C [zi x20, zi x25] [] kv_Mg_31 (c_E_before D n0 l h27) (e_E_before h27) ⟨(Nat.le_of_ble_eq_true rfl), (Nat.le_of_ble_eq_true rfl)⟩ (Nat.le_of_ble_eq_true rfl) ⟨(Nat.le_of_ble_eq_true rfl), (Nat.le_of_ble_eq_true rfl)⟩ d_Mg_least_54 (z_pc (pc' := 57) rfl ?_)
          refine z_if_eq (tgt := 67) C d_Mg_least_57 (by decide) (fun c30 => ?_) (fun c30 => z_pc (pc' := 60) rfl ?_)
          · have hf := zpos c30 hf
            refine z_iinc C d_Mg_least_67 rfl (by decide) (z_pl (pc' := 70) (L' := [some (zv n0 a0), some (zv n0 v1), some (zi (zadd v2 1)), some (zv n0 x10)]) rfl rfl ?_)
            refine z_goto (tgt := 4) C d_Mg_least_70 (by decide) ?_
            exact z_sub2 (ih _ _ _ hf) (And.intro rfl (And.intro rfl (And.intro rfl trivial)))
          · have hf := zneg c30 hf
            refine z_aload_n C d_Mg_least_60 rfl (z_pc (pc' := 61) rfl ?_)
            obtain ⟨x31, h32, hf⟩ := zbind hf
            refine z_getr C fl_Mg_9 rfl h32 d_Mg_least_61 (z_pc (pc' := 64) rfl ?_)
            refine z_iload_n C d_Mg_least_64 rfl (z_pc (pc' := 65) rfl ?_)
            obtain ⟨x33, h34, hf⟩ := zbind hf
            refine z_aald C (by decide) h34 d_Mg_least_65 (z_pc (pc' := 66) rfl ?_)
            refine z_astore_n C d_Mg_least_66 (by decide) (z_pl (pc' := 67) (L' := [some (zv n0 a0), some (zv n0 x33), some (zi v2), some (zv n0 x10)]) rfl rfl ?_)
            refine z_iinc C d_Mg_least_67 rfl (by decide) (z_pl (pc' := 70) (L' := [some (zv n0 a0), some (zv n0 x33), some (zi (zadd v2 1)), some (zv n0 x10)]) rfl rfl ?_)
            refine z_goto (tgt := 4) C d_Mg_least_70 (by decide) ?_
            exact z_sub2 (ih _ _ _ hf) (And.intro rfl (And.intro rfl (And.intro rfl trivial)))
      · have hf := zpos c11 hf
        refine z_goto (tgt := 67) C d_Mg_least_28 (by decide) ?_
        refine z_iinc C d_Mg_least_67 rfl (by decide) (z_pl (pc' := 70) (L' := [some (zv n0 a0), some (zv n0 v1), some (zi (zadd v2 1)), some (zv n0 x10)]) rfl rfl ?_)
        refine z_goto (tgt := 4) C d_Mg_least_70 (by decide) ?_
        exact z_sub2 (ih _ _ _ hf) (And.intro rfl (And.intro rfl (And.intro rfl trivial)))
theorem e_Mg_least {a0 : Nat} {M : zHp} {q : Nat × zHp} (hf : f_Mg_least a0 M = some q) : zk M a0 = 7 := by
  unfold f_Mg_least at hf
  exact (zif hf).1
set_option maxHeartbeats 4000000 in
set_option maxRecDepth 100000 in
theorem c_Mg_least (D : va_G) (n0 : Nat) (l : Launch) {a0 : Nat} {M : zHp} {r : Nat} {M' : zHp} (hf : f_Mg_least a0 M = some (r, M')) : zM D n0 l y_Mg_least b_Mg_least 4 (some (.object "LayerVault$Cursor")) 1 22 0 0 [zv n0 a0] M (some (zv n0 r)) M' := by
  refine zM.ofZ (by decide) (zcr zcn) (Nat.le_of_ble_eq_true rfl) ?_
  intro p e s m below meth c C hr hnm
  have C : zC D n0 p s m meth c b_Mg_least 4 "LayerVault$Merger" := C
  refine z_eqL (L' := [some (zv n0 a0), none, none, none]) rfl ?_
  unfold f_Mg_least at hf
  have hf := (zif hf).2
  refine z_null C d_Mg_least_0 (z_pc (pc' := 1) rfl ?_)
  refine z_astore_n C d_Mg_least_1 (by decide) (z_pl (pc' := 2) (L' := [some (zv n0 a0), some (zv n0 0), none, none]) rfl rfl ?_)
  refine z_iconst C d_Mg_least_2 (z_pc (pc' := 3) rfl ?_)
  refine z_istore_n C d_Mg_least_3 (by decide) (z_pl (pc' := 4) (L' := [some (zv n0 a0), some (zv n0 0), some (zi 0), none]) rfl rfl ?_)
  refine z_sub2 (w_Mg_least_L4 C hr ?_ _ _ _ _ hf) (And.intro rfl (And.intro rfl (And.intro rfl trivial)))
  intro v35 M36 hf
  refine z_aload_n C d_Mg_least_73 rfl (z_pc (pc' := 74) rfl ?_)
  exact z_aret C hr (Or.inl ⟨_, rfl⟩) (Nat.le_of_ble_eq_true rfl) (Nat.le_of_ble_eq_true rfl) d_Mg_least_74 hf
theorem e_Mg_look {a0 : Nat} {M : zHp} {q : Nat × zHp} (hf : f_Mg_look a0 M = some q) : zk M a0 = 7 := by
  unfold f_Mg_look at hf
  exact (zif hf).1
set_option maxHeartbeats 4000000 in
set_option maxRecDepth 100000 in
theorem c_Mg_look (D : va_G) (n0 : Nat) (l : Launch) {a0 : Nat} {M : zHp} {r : Nat} {M' : zHp} (hf : f_Mg_look a0 M = some (r, M')) : zM D n0 l y_Mg_look b_Mg_look 2 (some (.object "LayerVault$Entry")) 2 45 0 0 [zv n0 a0] M (some (zv n0 r)) M' := by
  refine zM.ofZ (by decide) (zcr zcn) (Nat.le_of_ble_eq_true rfl) ?_
  intro p e s m below meth c C hr hnm
  have C : zC D n0 p s m meth c b_Mg_look 2 "LayerVault$Merger" := C
  refine z_eqL (L' := [some (zv n0 a0), none]) rfl ?_
  unfold f_Mg_look at hf
  have hf := (zif hf).2
  refine z_aload_n C d_Mg_look_0 rfl (z_pc (pc' := 1) rfl ?_)
  obtain ⟨x3, M2, h1, hf⟩ := zb2_inv hf
  refine z_callV C [] [] kv_Mg_35 (c_Mg_least D n0 l h1) (e_Mg_least h1) ⟨(Nat.le_of_ble_eq_true rfl), (Nat.le_of_ble_eq_true rfl)⟩ (Nat.le_of_ble_eq_true rfl) ⟨(Nat.le_of_ble_eq_true rfl), (Nat.le_of_ble_eq_true rfl)⟩ d_Mg_look_1 (z_pc (pc' := 4) rfl ?_)
  refine z_astore_n C d_Mg_look_4 (by decide) (z_pl (pc' := 5) (L' := [some (zv n0 a0), some (zv n0 x3)]) rfl rfl ?_)
  refine z_aload_n C d_Mg_look_5 rfl (z_pc (pc' := 6) rfl ?_)
  refine z_ifnonnull (tgt := 13) C d_Mg_look_6 (by decide) (fun c4 => ?_) (fun c4 => (z_pc (pc' := 9) rfl ?_))
  · have hf := zneg c4 hf
    refine z_aload_n C d_Mg_look_13 rfl (z_pc (pc' := 14) rfl ?_)
    obtain ⟨x7, M6, h5, hf⟩ := zb2_inv hf
    refine n3_Mg_19 C [] h5 ⟨(Nat.le_of_ble_eq_true rfl), (Nat.le_of_ble_eq_true rfl)⟩ (Nat.le_of_ble_eq_true rfl) ⟨(Nat.le_of_ble_eq_true rfl), (Nat.le_of_ble_eq_true rfl)⟩ d_Mg_look_14 (z_pc (pc' := 19) rfl ?_)
    exact z_aret C hr (Or.inl ⟨_, rfl⟩) (Nat.le_of_ble_eq_true rfl) (Nat.le_of_ble_eq_true rfl) d_Mg_look_19 hf
  · have hf := zpos c4 hf
    refine z_null C d_Mg_look_9 (z_pc (pc' := 10) rfl ?_)
    refine z_goto (tgt := 19) C d_Mg_look_10 (by decide) ?_
    exact z_aret C hr (Or.inl ⟨_, rfl⟩) (Nat.le_of_ble_eq_true rfl) (Nat.le_of_ble_eq_true rfl) d_Mg_look_19 hf
theorem e_Mg_step {a0 : Nat} {M : zHp} {q : zHp} (hf : f_Mg_step a0 M = some q) : zk M a0 = 7 := by
  unfold f_Mg_step at hf
  exact (zif hf).1
set_option maxHeartbeats 4000000 in
set_option maxRecDepth 100000 in
theorem c_Mg_step (D : va_G) (n0 : Nat) (l : Launch) {a0 : Nat} {M : zHp} {M' : zHp} (hf : f_Mg_step a0 M = some M') : zM D n0 l y_Mg_step b_Mg_step 1 none 2 45 0 0 [zv n0 a0] M none M' := by
  refine zM.ofZ (by decide) (zcr zcn) (Nat.le_of_ble_eq_true rfl) ?_
  intro p e s m below meth c C hr hnm
  have C : zC D n0 p s m meth c b_Mg_step 1 "LayerVault$Merger" := C
  refine z_eqL (L' := [some (zv n0 a0)]) rfl ?_
  unfold f_Mg_step at hf
  have hf := (zif hf).2
  refine z_aload_n C d_Mg_step_0 rfl (z_pc (pc' := 1) rfl ?_)
  obtain ⟨x3, M2, h1, hf⟩ := zb2_inv hf
  refine z_callV C [] [] kv_Mg_35 (c_Mg_least D n0 l h1) (e_Mg_least h1) ⟨(Nat.le_of_ble_eq_true rfl), (Nat.le_of_ble_eq_true rfl)⟩ (Nat.le_of_ble_eq_true rfl) ⟨(Nat.le_of_ble_eq_true rfl), (Nat.le_of_ble_eq_true rfl)⟩ d_Mg_step_1 (z_pc (pc' := 4) rfl ?_)
  obtain ⟨M5, h4, hf⟩ := zbind hf
  refine n3_Mg_39 C [] h4 ⟨(Nat.le_of_ble_eq_true rfl), (Nat.le_of_ble_eq_true rfl)⟩ (Nat.le_of_ble_eq_true rfl) ⟨(Nat.le_of_ble_eq_true rfl), (Nat.le_of_ble_eq_true rfl)⟩ d_Mg_step_4 (z_pc (pc' := 9) rfl ?_)
  exact z_vret C hr (Nat.le_of_ble_eq_true rfl) (Nat.le_of_ble_eq_true rfl) d_Mg_step_9 hf
theorem kf_V_184_Mt : zNf "LayerVault" 184 ⟨"LayerVault$Cursor", "look", "()LLayerVault$Entry;"⟩ y_Mt_look b_Mt_look 1 (some (.object "LayerVault$Entry")) 3 0 := ⟨_, rfl, (zmem 327 (by decide +kernel) rfl), (zmem 337 (by decide +kernel) rfl), (zmem 339 (by decide +kernel) rfl), (zmem 341 (by decide +kernel) rfl), (zmem 3 (by decide +kernel) rfl), ⟨by decide +kernel, by decide +kernel, by decide +kernel⟩, List.mem_of_getElem? (i := 0) rfl⟩
theorem kf_V_184_Lv : zNf "LayerVault" 184 ⟨"LayerVault$Cursor", "look", "()LLayerVault$Entry;"⟩ y_Lv_look b_Lv_look 1 (some (.object "LayerVault$Entry")) 5 0 := ⟨_, rfl, (zmem 327 (by decide +kernel) rfl), (zmem 331 (by decide +kernel) rfl), (zmem 333 (by decide +kernel) rfl), (zmem 335 (by decide +kernel) rfl), (zmem 6 (by decide +kernel) rfl), ⟨by decide +kernel, by decide +kernel, by decide +kernel⟩, List.mem_of_getElem? (i := 1) rfl⟩
theorem kf_V_184_Sg : zNf "LayerVault" 184 ⟨"LayerVault$Cursor", "look", "()LLayerVault$Entry;"⟩ y_Sg_look b_Sg_look 1 (some (.object "LayerVault$Entry")) 6 0 := ⟨_, rfl, (zmem 327 (by decide +kernel) rfl), (zmem 355 (by decide +kernel) rfl), (zmem 357 (by decide +kernel) rfl), (zmem 359 (by decide +kernel) rfl), (zmem 7 (by decide +kernel) rfl), ⟨by decide +kernel, by decide +kernel, by decide +kernel⟩, List.mem_of_getElem? (i := 2) rfl⟩
theorem kf_V_184_Mg : zNf "LayerVault" 184 ⟨"LayerVault$Cursor", "look", "()LLayerVault$Entry;"⟩ y_Mg_look b_Mg_look 2 (some (.object "LayerVault$Entry")) 7 0 := ⟨_, rfl, (zmem 327 (by decide +kernel) rfl), (zmem 343 (by decide +kernel) rfl), (zmem 345 (by decide +kernel) rfl), (zmem 347 (by decide +kernel) rfl), (zmem 5 (by decide +kernel) rfl), ⟨by decide +kernel, by decide +kernel, by decide +kernel⟩, List.mem_of_getElem? (i := 3) rfl⟩
theorem n4_V_184 {D : va_G} {n0 : Nat} {p : Program} {l : Launch} {e : Env} {R : Room} {s : State} {m : MethodId} {args : Array Value} {below : List Frame} {meth : Method} {c : Code} {cells slots : Nat} {Q : State → Prop} {cc : ByteArray} {nL : Nat} {pc : Nat} {L : List (Option Value)} {M M1 : zHp} {b cnt : Nat} {r : Nat} (C : zC D n0 p s m meth c cc nL "LayerVault") (rest : List Value) (h : fi4_look b M = some (r, M1)) (hRm : 3 ≤ R.frames ∧ 66 ≤ R.locals) (hst : rest.length ≤ 4) (hf : cells + 0 ≤ R.cells ∧ slots + 0 ≤ R.slots) (hd : decode cc pc = .ok (.invokeinterface 184 cnt, 5)) (kk : zZ D n0 p l e R s m args below meth c nL cells slots Q (pc + 5) L (zv n0 r :: rest) M1) : zZ D n0 p l e R s m args below meth c nL cells slots Q pc L (zv n0 b :: rest) M := by
  unfold fi4_look at h
  by_cases h0 : zk M b = 3
  · have h := zpos h0 h
    exact z_callN C [] rest kf_V_184_Mt (c_Mt_look D n0 l h) h0 ⟨by omega, by omega⟩ hst hf hd kk
  have h := zneg h0 h
  by_cases h1 : zk M b = 5
  · have h := zpos h1 h
    exact z_callN C [] rest kf_V_184_Lv (c_Lv_look D n0 l h) h1 ⟨by omega, by omega⟩ hst hf hd kk
  have h := zneg h1 h
  by_cases h2 : zk M b = 6
  · have h := zpos h2 h
    exact z_callN C [] rest kf_V_184_Sg (c_Sg_look D n0 l h) h2 ⟨by omega, by omega⟩ hst hf hd kk
  have h := zneg h2 h
  by_cases h3 : zk M b = 7
  · have h := zpos h3 h
    exact z_callN C [] rest kf_V_184_Mg (c_Mg_look D n0 l h) h3 ⟨by omega, by omega⟩ hst hf hd kk
  have h := zneg h3 h
  cases h
theorem kf_V_190_Mt : zNf "LayerVault" 190 ⟨"LayerVault$Cursor", "step", "()V"⟩ y_Mt_step b_Mt_step 1 none 3 0 := ⟨_, rfl, (zmem 362 (by decide +kernel) rfl), (zmem 370 (by decide +kernel) rfl), (zmem 372 (by decide +kernel) rfl), (zmem 374 (by decide +kernel) rfl), (zmem 3 (by decide +kernel) rfl), ⟨by decide +kernel, by decide +kernel, by decide +kernel⟩, List.mem_of_getElem? (i := 4) rfl⟩
theorem kf_V_190_Lv : zNf "LayerVault" 190 ⟨"LayerVault$Cursor", "step", "()V"⟩ y_Lv_step b_Lv_step 1 none 5 0 := ⟨_, rfl, (zmem 362 (by decide +kernel) rfl), (zmem 365 (by decide +kernel) rfl), (zmem 367 (by decide +kernel) rfl), (zmem 369 (by decide +kernel) rfl), (zmem 6 (by decide +kernel) rfl), ⟨by decide +kernel, by decide +kernel, by decide +kernel⟩, List.mem_of_getElem? (i := 5) rfl⟩
theorem kf_V_190_Sg : zNf "LayerVault" 190 ⟨"LayerVault$Cursor", "step", "()V"⟩ y_Sg_step b_Sg_step 1 none 6 0 := ⟨_, rfl, (zmem 362 (by decide +kernel) rfl), (zmem 382 (by decide +kernel) rfl), (zmem 384 (by decide +kernel) rfl), (zmem 386 (by decide +kernel) rfl), (zmem 7 (by decide +kernel) rfl), ⟨by decide +kernel, by decide +kernel, by decide +kernel⟩, List.mem_of_getElem? (i := 6) rfl⟩
theorem kf_V_190_Mg : zNf "LayerVault" 190 ⟨"LayerVault$Cursor", "step", "()V"⟩ y_Mg_step b_Mg_step 1 none 7 0 := ⟨_, rfl, (zmem 362 (by decide +kernel) rfl), (zmem 375 (by decide +kernel) rfl), (zmem 377 (by decide +kernel) rfl), (zmem 379 (by decide +kernel) rfl), (zmem 5 (by decide +kernel) rfl), ⟨by decide +kernel, by decide +kernel, by decide +kernel⟩, List.mem_of_getElem? (i := 7) rfl⟩
theorem n4_V_190 {D : va_G} {n0 : Nat} {p : Program} {l : Launch} {e : Env} {R : Room} {s : State} {m : MethodId} {args : Array Value} {below : List Frame} {meth : Method} {c : Code} {cells slots : Nat} {Q : State → Prop} {cc : ByteArray} {nL : Nat} {pc : Nat} {L : List (Option Value)} {M M1 : zHp} {b cnt : Nat} (C : zC D n0 p s m meth c cc nL "LayerVault") (rest : List Value) (h : fi4_step b M = some M1) (hRm : 3 ≤ R.frames ∧ 65 ≤ R.locals) (hst : rest.length ≤ 4) (hf : cells + 0 ≤ R.cells ∧ slots + 0 ≤ R.slots) (hd : decode cc pc = .ok (.invokeinterface 190 cnt, 5)) (kk : zZ D n0 p l e R s m args below meth c nL cells slots Q (pc + 5) L (rest) M1) : zZ D n0 p l e R s m args below meth c nL cells slots Q pc L (zv n0 b :: rest) M := by
  unfold fi4_step at h
  by_cases h0 : zk M b = 3
  · have h := zpos h0 h
    exact z_callN C [] rest kf_V_190_Mt (c_Mt_step D n0 l h) h0 ⟨by omega, by omega⟩ hst hf hd kk
  have h := zneg h0 h
  by_cases h1 : zk M b = 5
  · have h := zpos h1 h
    exact z_callN C [] rest kf_V_190_Lv (c_Lv_step D n0 l h) h1 ⟨by omega, by omega⟩ hst hf hd kk
  have h := zneg h1 h
  by_cases h2 : zk M b = 6
  · have h := zpos h2 h
    exact z_callN C [] rest kf_V_190_Sg (c_Sg_step D n0 l h) h2 ⟨by omega, by omega⟩ hst hf hd kk
  have h := zneg h2 h
  by_cases h3 : zk M b = 7
  · have h := zpos h3 h
    exact z_callN C [] rest kf_V_190_Mg (c_Mg_step D n0 l h) h3 ⟨by omega, by omega⟩ hst hf hd kk
  have h := zneg h3 h
  cases h
set_option maxHeartbeats 4000000 in
set_option maxRecDepth 100000 in
theorem w_V_init_L170 {D : va_G} {n0 : Nat} {l : Launch} {p : Program} {e : Env} {s : State} {m : MethodId} {args : Array Value} {below : List Frame} {meth : Method} {c : Code} {B Bs : Nat} {a0 : Nat} {M' : zHp} {κ : zHp → Option (zHp)} (C : zC D n0 p s m meth c b_V_init 2 "LayerVault") (hr : meth.sig.returnType = none) (hnm : meth.name = "<init>") (hB : B ≤ 28) (hBs : Bs ≤ 581)
    (hκ : ∀ (M1 : zHp), κ M1 = some M' → zZ D n0 p l e { frames := 3, cells := 28, slots := 581, locals := 60 } s m args below meth c 2 B Bs (MQ below (zQc D n0 none M') args s 28 581 (fun q => n0 ≤ q)) 194 [some (zv n0 a0), none] [] M1) :
    ∀ (n cells slots : Nat), cells + n * 1 ≤ B → slots + n * 2 ≤ Bs → ∀ (v1 : Int) (M : zHp), f_V_init_L170 κ a0 n v1 M = some M' → zZ D n0 p l e { frames := 3, cells := 28, slots := 581, locals := 60 } s m args below meth c 2 cells slots (MQ below (zQc D n0 none M') args s 28 581 (fun q => n0 ≤ q)) 170 [some (zv n0 a0), some (zi v1)] [] M := by
  intro n
  induction n with
  | zero =>
    intro cells slots hb1 hb2 v1 M hf
    exact absurd hf (by unfold f_V_init_L170; simp)
  | succ n ih =>
    intro cells slots hb1 hb2 v1 M hf
    unfold f_V_init_L170 at hf
    refine z_iload_n C d_V_init_170 rfl (z_pc (pc' := 171) rfl ?_)
    refine z_iconst C d_V_init_171 (z_pc (pc' := 172) rfl ?_)
    refine z_icmp_ge (tgt := 194) C d_V_init_172 (by decide) (fun c105 => ?_) (fun c105 => z_pc (pc' := 175) rfl ?_)
    · have hf := zpos c105 hf
      exact z_widen (by omega) (by omega) (z_sub2 (hκ _ hf) (And.intro rfl trivial))
    · have hf := zneg c105 hf
      refine z_aload_n C d_V_init_175 rfl (z_pc (pc' := 176) rfl ?_)
      obtain ⟨x106, h107, hf⟩ := zbind hf
      refine z_getr C fl_V_54 rfl h107 d_V_init_176 (z_pc (pc' := 179) rfl ?_)
      refine z_iload_n C d_V_init_179 rfl (z_pc (pc' := 180) rfl ?_)
      obtain ⟨x108, M111, h109, hf⟩ := zb2_inv hf
      refine z_newO C (ci := 6) 2 rfl rfl kl_V_52 kn_Sg kt_Sg h109 (by show cells + 1 ≤ 28; omega) (by show slots + 2 ≤ 581; omega) d_V_init_180 (fun g110 => (z_pc (pc' := 183) rfl ?_))
      refine z_dupr C d_V_init_183 (z_pc (pc' := 184) rfl ?_)
      obtain ⟨M113, h112, hf⟩ := zbind hf
      refine z_callI C [] [zv n0 x108, zi v1, zv n0 x106] g110 ki_V_78 (c_Sg_init D n0 l g110 h112) ⟨(Nat.le_of_ble_eq_true rfl), (Nat.le_of_ble_eq_true rfl)⟩ (Nat.le_of_ble_eq_true rfl) ⟨(by show cells + 1 ≤ 28; omega), (by show slots + 2 ≤ 581; omega)⟩ d_V_init_184 (z_pc (pc' := 187) rfl ?_)
      obtain ⟨M114, h115, hf⟩ := zbind hf
      refine z_aast C (by decide) h115 d_V_init_187 (z_pc (pc' := 188) rfl ?_)
      refine z_iinc C d_V_init_188 rfl (by decide) (z_pl (pc' := 191) (L' := [some (zv n0 a0), some (zi (zadd v1 1))]) rfl rfl ?_)
      refine z_goto (tgt := 170) C d_V_init_191 (by decide) ?_
      exact z_widen (k := cells + 1) (n := slots + 2) (by omega) (by omega) (z_sub2 (ih (cells + 1) (slots + 2) (by omega) (by omega) _ _ hf) (And.intro rfl (And.intro rfl trivial)))
set_option maxHeartbeats 4000000 in
set_option maxRecDepth 100000 in
theorem w_V_init_L196 {D : va_G} {n0 : Nat} {l : Launch} {p : Program} {e : Env} {s : State} {m : MethodId} {args : Array Value} {below : List Frame} {meth : Method} {c : Code} {cells slots : Nat} {a0 : Nat} {M' : zHp} {κ : zHp → Option (zHp)} (C : zC D n0 p s m meth c b_V_init 2 "LayerVault") (hr : meth.sig.returnType = none) (hnm : meth.name = "<init>") (hB : cells ≤ 28) (hBs : slots ≤ 581)
    (hκ : ∀ (M1 : zHp), κ M1 = some M' → zZ D n0 p l e { frames := 3, cells := 28, slots := 581, locals := 60 } s m args below meth c 2 cells slots (MQ below (zQc D n0 none M') args s 28 581 (fun q => n0 ≤ q)) 214 [none, none] [] M1) :
    ∀ (n : Nat) (v1 : Int) (M : zHp), f_V_init_L196 κ a0 n v1 M = some M' → zZ D n0 p l e { frames := 3, cells := 28, slots := 581, locals := 60 } s m args below meth c 2 cells slots (MQ below (zQc D n0 none M') args s 28 581 (fun q => n0 ≤ q)) 196 [some (zv n0 a0), some (zi v1)] [] M := by
  intro n
  induction n with
  | zero =>
    intro v1 M hf
    exact absurd hf (by unfold f_V_init_L196; simp)
  | succ n ih =>
    intro v1 M hf
    unfold f_V_init_L196 at hf
    refine z_iload_n C d_V_init_196 rfl (z_pc (pc' := 197) rfl ?_)
    refine z_iconst C d_V_init_197 (z_pc (pc' := 198) rfl ?_)
    refine z_icmp_ge (tgt := 214) C d_V_init_198 (by decide) (fun c117 => ?_) (fun c117 => z_pc (pc' := 201) rfl ?_)
    · have hf := zpos c117 hf
      exact z_sub2 (hκ _ hf) trivial
    · have hf := zneg c117 hf
      refine z_aload_n C d_V_init_201 rfl (z_pc (pc' := 202) rfl ?_)
      obtain ⟨x118, h119, hf⟩ := zbind hf
      refine z_getr C fl_V_36 rfl h119 d_V_init_202 (z_pc (pc' := 205) rfl ?_)
      refine z_iload_n C d_V_init_205 rfl (z_pc (pc' := 206) rfl ?_)
      refine z_iconst C d_V_init_206 (z_pc (pc' := 207) rfl ?_)
      obtain ⟨M120, h121, hf⟩ := zbind hf
      refine z_iast C h121 d_V_init_207 (z_pc (pc' := 208) rfl ?_)
      refine z_iinc C d_V_init_208 rfl (by decide) (z_pl (pc' := 211) (L' := [some (zv n0 a0), some (zi (zadd v1 1))]) rfl rfl ?_)
      refine z_goto (tgt := 196) C d_V_init_211 (by decide) ?_
      exact z_sub2 (ih _ _ hf) (And.intro rfl (And.intro rfl trivial))
set_option maxHeartbeats 4000000 in
set_option maxRecDepth 100000 in
theorem c_V_init (D : va_G) (n0 : Nat) (l : Launch) {a0 : Nat} {M : zHp} {M' : zHp} (h0 : 0 < a0) (hf : f_V_init a0 M = some M') : zM D n0 l y_V_init b_V_init 2 none 3 60 28 581 [zv n0 a0] M none M' := by
  refine zM.ofZ (by decide) (zcr zcn) (Nat.le_of_ble_eq_true rfl) ?_
  intro p e s m below meth c C hr hnm
  have C : zC D n0 p s m meth c b_V_init 2 "LayerVault" := C
  have hnm : meth.name = "<init>" := hnm
  refine z_eqL (L' := [some (zv n0 a0), none]) rfl ?_
  unfold f_V_init at hf
  refine z_aload_n C d_V_init_0 rfl (z_pc (pc' := 1) rfl ?_)
  refine z_objInit C h0 kj_V_1 kj_inst kj_code ⟨(Nat.le_of_ble_eq_true rfl), (Nat.le_of_ble_eq_true rfl)⟩ (Nat.le_of_ble_eq_true rfl) d_V_init_1 (z_pc (pc' := 4) rfl ?_)
  refine z_aload_n C d_V_init_4 rfl (z_pc (pc' := 5) rfl ?_)
  obtain ⟨x1, M4, h2, hf⟩ := zb2_inv hf
  refine z_newO C (ci := 2) 7 rfl rfl kl_V_7 kn_S kt_S h2 (Nat.le_of_ble_eq_true rfl) (Nat.le_of_ble_eq_true rfl) d_V_init_5 (fun g3 => (z_pc (pc' := 8) rfl ?_))
  refine z_dupr C d_V_init_8 (z_pc (pc' := 9) rfl ?_)
  obtain ⟨M6, h5, hf⟩ := zbind hf
  refine z_callI C [] [zv n0 x1, zv n0 a0] g3 ki_V_9 (c_S_init D n0 l g3 h5) ⟨(Nat.le_of_ble_eq_true rfl), (Nat.le_of_ble_eq_true rfl)⟩ (Nat.le_of_ble_eq_true rfl) ⟨(Nat.le_of_ble_eq_true rfl), (Nat.le_of_ble_eq_true rfl)⟩ d_V_init_9 (z_pc (pc' := 12) rfl ?_)
  obtain ⟨M7, h8, hf⟩ := zbind hf
  refine z_putr C fp_V_10 rfl (by decide) rfl h8 d_V_init_12 (z_pc (pc' := 15) rfl ?_)
  refine z_aload_n C d_V_init_15 rfl (z_pc (pc' := 16) rfl ?_)
  refine z_aload_n C d_V_init_16 rfl (z_pc (pc' := 17) rfl ?_)
  obtain ⟨x9, h10, hf⟩ := zbind hf
  refine z_getr C fl_V_10 rfl h10 d_V_init_17 (z_pc (pc' := 20) rfl ?_)
  obtain ⟨M11, h12, hf⟩ := zbind hf
  refine z_putr C fp_V_16 rfl (by decide) rfl h12 d_V_init_20 (z_pc (pc' := 23) rfl ?_)
  refine z_aload_n C d_V_init_23 rfl (z_pc (pc' := 24) rfl ?_)
  refine z_iconst C d_V_init_24 (z_pc (pc' := 25) rfl ?_)
  obtain ⟨M13, h14, hf⟩ := zbind hf
  refine z_puti C fp_V_19 (by decide) rfl h14 d_V_init_25 (z_pc (pc' := 28) rfl ?_)
  refine z_aload_n C d_V_init_28 rfl (z_pc (pc' := 29) rfl ?_)
  refine z_aload_n C d_V_init_29 rfl (z_pc (pc' := 30) rfl ?_)
  obtain ⟨x15, h16, hf⟩ := zbind hf
  refine z_getr C fl_V_10 rfl h16 d_V_init_30 (z_pc (pc' := 33) rfl ?_)
  obtain ⟨M17, h18, hf⟩ := zbind hf
  refine z_putr C fp_V_23 rfl (by decide) rfl h18 d_V_init_33 (z_pc (pc' := 36) rfl ?_)
  refine z_aload_n C d_V_init_36 rfl (z_pc (pc' := 37) rfl ?_)
  refine z_bipush C d_V_init_37 (by decide) (z_pc (pc' := 39) rfl ?_)
  obtain ⟨x19, M21, h20, hf⟩ := zb2_inv hf
  refine z_newI C (by decide) ka_int h20 (Nat.le_of_ble_eq_true rfl) (Nat.le_of_ble_eq_true rfl) d_V_init_39 (z_pc (pc' := 41) rfl ?_)
  obtain ⟨M22, h23, hf⟩ := zbind hf
  refine z_putfr C hnm ff_V_26 rfl (by decide) rfl h23 d_V_init_41 (z_pc (pc' := 44) rfl ?_)
  refine z_aload_n C d_V_init_44 rfl (z_pc (pc' := 45) rfl ?_)
  refine z_bipush C d_V_init_45 (by decide) (z_pc (pc' := 47) rfl ?_)
  obtain ⟨x24, M26, h25, hf⟩ := zb2_inv hf
  refine z_newI C (by decide) ka_int h25 (Nat.le_of_ble_eq_true rfl) (Nat.le_of_ble_eq_true rfl) d_V_init_47 (z_pc (pc' := 49) rfl ?_)
  obtain ⟨M27, h28, hf⟩ := zbind hf
  refine z_putfr C hnm ff_V_30 rfl (by decide) rfl h28 d_V_init_49 (z_pc (pc' := 52) rfl ?_)
  refine z_aload_n C d_V_init_52 rfl (z_pc (pc' := 53) rfl ?_)
  refine z_bipush C d_V_init_53 (by decide) (z_pc (pc' := 55) rfl ?_)
  obtain ⟨x29, M31, h30, hf⟩ := zb2_inv hf
  refine z_newI C (by decide) ka_int h30 (Nat.le_of_ble_eq_true rfl) (Nat.le_of_ble_eq_true rfl) d_V_init_55 (z_pc (pc' := 57) rfl ?_)
  obtain ⟨M32, h33, hf⟩ := zbind hf
  refine z_putfr C hnm ff_V_33 rfl (by decide) rfl h33 d_V_init_57 (z_pc (pc' := 60) rfl ?_)
  refine z_aload_n C d_V_init_60 rfl (z_pc (pc' := 61) rfl ?_)
  refine z_iconst C d_V_init_61 (z_pc (pc' := 62) rfl ?_)
  obtain ⟨x34, M36, h35, hf⟩ := zb2_inv hf
  refine z_newI C (by decide) ka_int h35 (Nat.le_of_ble_eq_true rfl) (Nat.le_of_ble_eq_true rfl) d_V_init_62 (z_pc (pc' := 64) rfl ?_)
  obtain ⟨M37, h38, hf⟩ := zbind hf
  refine z_putfr C hnm ff_V_36 rfl (by decide) rfl h38 d_V_init_64 (z_pc (pc' := 67) rfl ?_)
  refine z_aload_n C d_V_init_67 rfl (z_pc (pc' := 68) rfl ?_)
  obtain ⟨x39, M42, h40, hf⟩ := zb2_inv hf
  refine z_newO C (ci := 3) 3 rfl rfl kl_V_39 kn_Mt kt_Mt h40 (Nat.le_of_ble_eq_true rfl) (Nat.le_of_ble_eq_true rfl) d_V_init_68 (fun g41 => (z_pc (pc' := 71) rfl ?_))
  refine z_dupr C d_V_init_71 (z_pc (pc' := 72) rfl ?_)
  obtain ⟨M44, h43, hf⟩ := zbind hf
  refine z_callI C [] [zv n0 x39, zv n0 a0] g41 ki_V_41 (c_Mt_init D n0 l g41 h43) ⟨(Nat.le_of_ble_eq_true rfl), (Nat.le_of_ble_eq_true rfl)⟩ (Nat.le_of_ble_eq_true rfl) ⟨(Nat.le_of_ble_eq_true rfl), (Nat.le_of_ble_eq_true rfl)⟩ d_V_init_72 (z_pc (pc' := 75) rfl ?_)
  obtain ⟨M45, h46, hf⟩ := zbind hf
  refine z_putfr C hnm ff_V_42 rfl (by decide) rfl h46 d_V_init_75 (z_pc (pc' := 78) rfl ?_)
  refine z_aload_n C d_V_init_78 rfl (z_pc (pc' := 79) rfl ?_)
  refine z_iconst C d_V_init_79 (z_pc (pc' := 80) rfl ?_)
  obtain ⟨x47, M49, h48, hf⟩ := zb2_inv hf
  refine z_newR C (by decide) rfl (by decide) kl_V_46 ko_Lv h48 (Nat.le_of_ble_eq_true rfl) (Nat.le_of_ble_eq_true rfl) d_V_init_80 (z_pc (pc' := 83) rfl ?_)
  obtain ⟨M50, h51, hf⟩ := zbind hf
  refine z_putfr C hnm ff_V_48 rfl (by decide) rfl h51 d_V_init_83 (z_pc (pc' := 86) rfl ?_)
  refine z_aload_n C d_V_init_86 rfl (z_pc (pc' := 87) rfl ?_)
  refine z_iconst C d_V_init_87 (z_pc (pc' := 88) rfl ?_)
  obtain ⟨x52, M54, h53, hf⟩ := zb2_inv hf
  refine z_newR C (by decide) rfl (by decide) kl_V_52 ko_Sg h53 (Nat.le_of_ble_eq_true rfl) (Nat.le_of_ble_eq_true rfl) d_V_init_88 (z_pc (pc' := 91) rfl ?_)
  obtain ⟨M55, h56, hf⟩ := zbind hf
  refine z_putfr C hnm ff_V_54 rfl (by decide) rfl h56 d_V_init_91 (z_pc (pc' := 94) rfl ?_)
  refine z_aload_n C d_V_init_94 rfl (z_pc (pc' := 95) rfl ?_)
  obtain ⟨x57, M60, h58, hf⟩ := zb2_inv hf
  refine z_newO C (ci := 7) 2 rfl rfl kl_V_58 kn_Mg kt_Mg h58 (Nat.le_of_ble_eq_true rfl) (Nat.le_of_ble_eq_true rfl) d_V_init_95 (fun g59 => (z_pc (pc' := 98) rfl ?_))
  refine z_dupr C d_V_init_98 (z_pc (pc' := 99) rfl ?_)
  obtain ⟨M62, h61, hf⟩ := zbind hf
  refine z_callI C [] [zv n0 x57, zv n0 a0] g59 ki_V_60 (c_Mg_init D n0 l g59 h61) ⟨(Nat.le_of_ble_eq_true rfl), (Nat.le_of_ble_eq_true rfl)⟩ (Nat.le_of_ble_eq_true rfl) ⟨(Nat.le_of_ble_eq_true rfl), (Nat.le_of_ble_eq_true rfl)⟩ d_V_init_99 (z_pc (pc' := 102) rfl ?_)
  obtain ⟨M63, h64, hf⟩ := zbind hf
  refine z_putfr C hnm ff_V_61 rfl (by decide) rfl h64 d_V_init_102 (z_pc (pc' := 105) rfl ?_)
  refine z_aload_n C d_V_init_105 rfl (z_pc (pc' := 106) rfl ?_)
  refine z_sipush C d_V_init_106 (by decide) (z_pc (pc' := 109) rfl ?_)
  obtain ⟨x65, M67, h66, hf⟩ := zb2_inv hf
  refine z_newR C (by decide) rfl (by decide) kl_V_65 ko_E h66 (Nat.le_of_ble_eq_true rfl) (Nat.le_of_ble_eq_true rfl) d_V_init_109 (z_pc (pc' := 112) rfl ?_)
  obtain ⟨M68, h69, hf⟩ := zbind hf
  refine z_putfr C hnm ff_V_67 rfl (by decide) rfl h69 d_V_init_112 (z_pc (pc' := 115) rfl ?_)
  refine z_aload_n C d_V_init_115 rfl (z_pc (pc' := 116) rfl ?_)
  refine z_sipush C d_V_init_116 (by decide) (z_pc (pc' := 119) rfl ?_)
  obtain ⟨x70, M72, h71, hf⟩ := zb2_inv hf
  refine z_newZ C (by decide) ka_boolean h71 (Nat.le_of_ble_eq_true rfl) (Nat.le_of_ble_eq_true rfl) d_V_init_119 (z_pc (pc' := 121) rfl ?_)
  obtain ⟨M73, h74, hf⟩ := zbind hf
  refine z_putfr C hnm ff_V_71 rfl (by decide) rfl h74 d_V_init_121 (z_pc (pc' := 124) rfl ?_)
  refine z_aload_n C d_V_init_124 rfl (z_pc (pc' := 125) rfl ?_)
  obtain ⟨x75, h76, hf⟩ := zbind hf
  refine z_getr C fl_V_48 rfl h76 d_V_init_125 (z_pc (pc' := 128) rfl ?_)
  refine z_iconst C d_V_init_128 (z_pc (pc' := 129) rfl ?_)
  obtain ⟨x77, M80, h78, hf⟩ := zb2_inv hf
  refine z_newO C (ci := 5) 5 rfl rfl kl_V_46 kn_Lv kt_Lv h78 (Nat.le_of_ble_eq_true rfl) (Nat.le_of_ble_eq_true rfl) d_V_init_129 (fun g79 => (z_pc (pc' := 132) rfl ?_))
  refine z_dupr C d_V_init_132 (z_pc (pc' := 133) rfl ?_)
  refine z_iconst C d_V_init_133 (z_pc (pc' := 134) rfl ?_)
  obtain ⟨M82, h81, hf⟩ := zbind hf
  refine z_callI C [zi 4] [zv n0 x77, zi 0, zv n0 x75] g79 ki_V_75 (c_Lv_init D n0 l g79 h81) ⟨(Nat.le_of_ble_eq_true rfl), (Nat.le_of_ble_eq_true rfl)⟩ (Nat.le_of_ble_eq_true rfl) ⟨(Nat.le_of_ble_eq_true rfl), (Nat.le_of_ble_eq_true rfl)⟩ d_V_init_134 (z_pc (pc' := 137) rfl ?_)
  obtain ⟨M83, h84, hf⟩ := zbind hf
  refine z_aast C (by decide) h84 d_V_init_137 (z_pc (pc' := 138) rfl ?_)
  refine z_aload_n C d_V_init_138 rfl (z_pc (pc' := 139) rfl ?_)
  obtain ⟨x85, h86, hf⟩ := zbind hf
  refine z_getr C fl_V_48 rfl h86 d_V_init_139 (z_pc (pc' := 142) rfl ?_)
  refine z_iconst C d_V_init_142 (z_pc (pc' := 143) rfl ?_)
  obtain ⟨x87, M90, h88, hf⟩ := zb2_inv hf
  refine z_newO C (ci := 5) 5 rfl rfl kl_V_46 kn_Lv kt_Lv h88 (Nat.le_of_ble_eq_true rfl) (Nat.le_of_ble_eq_true rfl) d_V_init_143 (fun g89 => (z_pc (pc' := 146) rfl ?_))
  refine z_dupr C d_V_init_146 (z_pc (pc' := 147) rfl ?_)
  refine z_bipush C d_V_init_147 (by decide) (z_pc (pc' := 149) rfl ?_)
  obtain ⟨M92, h91, hf⟩ := zbind hf
  refine z_callI C [zi 8] [zv n0 x87, zi 1, zv n0 x85] g89 ki_V_75 (c_Lv_init D n0 l g89 h91) ⟨(Nat.le_of_ble_eq_true rfl), (Nat.le_of_ble_eq_true rfl)⟩ (Nat.le_of_ble_eq_true rfl) ⟨(Nat.le_of_ble_eq_true rfl), (Nat.le_of_ble_eq_true rfl)⟩ d_V_init_149 (z_pc (pc' := 152) rfl ?_)
  obtain ⟨M93, h94, hf⟩ := zbind hf
  refine z_aast C (by decide) h94 d_V_init_152 (z_pc (pc' := 153) rfl ?_)
  refine z_aload_n C d_V_init_153 rfl (z_pc (pc' := 154) rfl ?_)
  obtain ⟨x95, h96, hf⟩ := zbind hf
  refine z_getr C fl_V_48 rfl h96 d_V_init_154 (z_pc (pc' := 157) rfl ?_)
  refine z_iconst C d_V_init_157 (z_pc (pc' := 158) rfl ?_)
  obtain ⟨x97, M100, h98, hf⟩ := zb2_inv hf
  refine z_newO C (ci := 5) 5 rfl rfl kl_V_46 kn_Lv kt_Lv h98 (Nat.le_of_ble_eq_true rfl) (Nat.le_of_ble_eq_true rfl) d_V_init_158 (fun g99 => (z_pc (pc' := 161) rfl ?_))
  refine z_dupr C d_V_init_161 (z_pc (pc' := 162) rfl ?_)
  refine z_bipush C d_V_init_162 (by decide) (z_pc (pc' := 164) rfl ?_)
  obtain ⟨M102, h101, hf⟩ := zbind hf
  refine z_callI C [zi 30] [zv n0 x97, zi 2, zv n0 x95] g99 ki_V_75 (c_Lv_init D n0 l g99 h101) ⟨(Nat.le_of_ble_eq_true rfl), (Nat.le_of_ble_eq_true rfl)⟩ (Nat.le_of_ble_eq_true rfl) ⟨(Nat.le_of_ble_eq_true rfl), (Nat.le_of_ble_eq_true rfl)⟩ d_V_init_164 (z_pc (pc' := 167) rfl ?_)
  obtain ⟨M103, h104, hf⟩ := zbind hf
  refine z_aast C (by decide) h104 d_V_init_167 (z_pc (pc' := 168) rfl ?_)
  refine z_iconst C d_V_init_168 (z_pc (pc' := 169) rfl ?_)
  refine z_istore_n C d_V_init_169 (by decide) (z_pl (pc' := 170) (L' := [some (zv n0 a0), some (zi 0)]) rfl rfl ?_)
  refine z_sub2 (w_V_init_L170 (B := 28) (Bs := 581) C hr hnm (Nat.le_of_ble_eq_true rfl) (Nat.le_of_ble_eq_true rfl) ?_ zf_V_init_L170 _ _ (by decide) (by decide) _ _ hf) (And.intro rfl (And.intro rfl trivial))
  intro M116 hf
  refine z_iconst C d_V_init_194 (z_pc (pc' := 195) rfl ?_)
  refine z_istore_n C d_V_init_195 (by decide) (z_pl (pc' := 196) (L' := [some (zv n0 a0), some (zi 0)]) rfl rfl ?_)
  refine z_sub2 (w_V_init_L196 C hr hnm (Nat.le_of_ble_eq_true rfl) (Nat.le_of_ble_eq_true rfl) ?_ _ _ _ hf) (And.intro rfl (And.intro rfl trivial))
  intro M122 hf
  exact z_vret C hr (Nat.le_of_ble_eq_true rfl) (Nat.le_of_ble_eq_true rfl) d_V_init_214 hf
theorem e_V_room {a0 : Nat} {a1 : Int} {M : zHp} {q : Nat × zHp} (hf : f_V_room a0 a1 M = some q) : zk M a0 = 0 := by
  unfold f_V_room at hf
  exact (zif hf).1
set_option maxHeartbeats 4000000 in
set_option maxRecDepth 100000 in
theorem c_V_room (D : va_G) (n0 : Nat) (l : Launch) {a0 : Nat} {a1 : Int} {M : zHp} {r : Nat} {M' : zHp} (hf : f_V_room a0 a1 M = some (r, M')) : zM D n0 l y_V_room b_V_room 3 (some (.object "LayerVault$Segment")) 2 40 4 55 [zv n0 a0, zi a1] M (some (zv n0 r)) M' := by
  refine zM.ofZ (by decide) (zcr (zci zcn)) (Nat.le_of_ble_eq_true rfl) ?_
  intro p e s m below meth c C hr hnm
  have C : zC D n0 p s m meth c b_V_room 3 "LayerVault" := C
  refine z_eqL (L' := [some (zv n0 a0), some (zi a1), none]) rfl ?_
  unfold f_V_room at hf
  have hf := (zif hf).2
  refine z_aload_n C d_V_room_0 rfl (z_pc (pc' := 1) rfl ?_)
  obtain ⟨x1, h2, hf⟩ := zbind hf
  refine z_getr C fl_V_16 rfl h2 d_V_room_1 (z_pc (pc' := 4) rfl ?_)
  obtain ⟨x3, h4, hf⟩ := zbind hf
  refine z_geti C fl_V_79 h4 d_V_room_4 (z_pc (pc' := 7) rfl ?_)
  refine z_iload_n C d_V_room_7 rfl (z_pc (pc' := 8) rfl ?_)
  refine z_iadd C d_V_room_8 (z_pc (pc' := 9) rfl ?_)
  refine z_bipush C d_V_room_9 (by decide) (z_pc (pc' := 11) rfl ?_)
  refine z_icmp_gt (tgt := 19) C d_V_room_11 (by decide) (fun c5 => ?_) (fun c5 => z_pc (pc' := 14) rfl ?_)
  · have hf := zpos c5 hf
    refine z_aload_n C d_V_room_19 rfl (z_pc (pc' := 20) rfl ?_)
    obtain ⟨x6, h7, hf⟩ := zbind hf
    refine z_getr C fl_V_82 rfl h7 d_V_room_20 (z_pc (pc' := 23) rfl ?_)
    refine z_astore_n C d_V_room_23 (by decide) (z_pl (pc' := 24) (L' := [some (zv n0 a0), some (zi a1), some (zv n0 x6)]) rfl rfl ?_)
    refine z_aload_n C d_V_room_24 rfl (z_pc (pc' := 25) rfl ?_)
    refine z_ifnonnull (tgt := 39) C d_V_room_25 (by decide) (fun c8 => ?_) (fun c8 => (z_pc (pc' := 28) rfl ?_))
    · have hf := zneg c8 hf
      refine z_aload_n C d_V_room_39 rfl (z_pc (pc' := 40) rfl ?_)
      refine z_aload_n C d_V_room_40 rfl (z_pc (pc' := 41) rfl ?_)
      obtain ⟨x9, h10, hf⟩ := zbind hf
      refine z_getr C fl_V_85 rfl h10 d_V_room_41 (z_pc (pc' := 44) rfl ?_)
      obtain ⟨M11, h12, hf⟩ := zbind hf
      refine z_putr C fp_V_82 rfl (by decide) rfl h12 d_V_room_44 (z_pc (pc' := 47) rfl ?_)
      refine z_aload_n C d_V_room_47 rfl (z_pc (pc' := 48) rfl ?_)
      refine z_aload_n C d_V_room_48 rfl (z_pc (pc' := 49) rfl ?_)
      obtain ⟨x13, h14, hf⟩ := zbind hf
      refine z_getr C fl_V_16 rfl h14 d_V_room_49 (z_pc (pc' := 52) rfl ?_)
      obtain ⟨x15, h16, hf⟩ := zbind hf
      refine z_geti C fl_V_88 h16 d_V_room_52 (z_pc (pc' := 55) rfl ?_)
      refine z_iconst C d_V_room_55 (z_pc (pc' := 56) rfl ?_)
      refine z_iadd C d_V_room_56 (z_pc (pc' := 57) rfl ?_)
      obtain ⟨M18, h17, hf⟩ := zbind hf
      refine z_callV C [zi (zadd x15 1)] [] kv_V_91 (c_S_begin D n0 l h17) (e_S_begin h17) ⟨(Nat.le_of_ble_eq_true rfl), (Nat.le_of_ble_eq_true rfl)⟩ (Nat.le_of_ble_eq_true rfl) ⟨(Nat.le_of_ble_eq_true rfl), (Nat.le_of_ble_eq_true rfl)⟩ d_V_room_57 (z_pc (pc' := 60) rfl ?_)
      refine z_aload_n C d_V_room_60 rfl (z_pc (pc' := 61) rfl ?_)
      obtain ⟨x19, h20, hf⟩ := zbind hf
      refine z_getr C fl_V_16 rfl h20 d_V_room_61 (z_pc (pc' := 64) rfl ?_)
      refine z_aload_n C d_V_room_64 rfl (z_pc (pc' := 65) rfl ?_)
      obtain ⟨M21, h22, hf⟩ := zbind hf
      refine z_putr C fp_V_85 rfl (by decide) rfl h22 d_V_room_65 (z_pc (pc' := 68) rfl ?_)
      refine z_aload_n C d_V_room_68 rfl (z_pc (pc' := 69) rfl ?_)
      refine z_aload_n C d_V_room_69 rfl (z_pc (pc' := 70) rfl ?_)
      obtain ⟨M23, h24, hf⟩ := zbind hf
      refine z_putr C fp_V_16 rfl (by decide) rfl h24 d_V_room_70 (z_pc (pc' := 73) rfl ?_)
      refine z_aload_n C d_V_room_73 rfl (z_pc (pc' := 74) rfl ?_)
      refine z_dupr C d_V_room_74 (z_pc (pc' := 75) rfl ?_)
      obtain ⟨x25, h26, hf⟩ := zbind hf
      refine z_geti C fl_V_19 h26 d_V_room_75 (z_pc (pc' := 78) rfl ?_)
      refine z_iconst C d_V_room_78 (z_pc (pc' := 79) rfl ?_)
      refine z_iadd C d_V_room_79 (z_pc (pc' := 80) rfl ?_)
      obtain ⟨M27, h28, hf⟩ := zbind hf
      refine z_puti C fp_V_19 (by decide) rfl h28 d_V_room_80 (z_pc (pc' := 83) rfl ?_)
      refine z_aload_n C d_V_room_83 rfl (z_pc (pc' := 84) rfl ?_)
      exact z_aret C hr (Or.inl ⟨_, rfl⟩) (Nat.le_of_ble_eq_true rfl) (Nat.le_of_ble_eq_true rfl) d_V_room_84 hf
    · have hf := zpos c8 hf
      obtain ⟨x29, M32, h30, hf⟩ := zb2_inv hf
      refine z_newO C (ci := 2) 7 rfl rfl kl_V_7 kn_S kt_S h30 (Nat.le_of_ble_eq_true rfl) (Nat.le_of_ble_eq_true rfl) d_V_room_28 (fun g31 => (z_pc (pc' := 31) rfl ?_))
      refine z_dupr C d_V_room_31 (z_pc (pc' := 32) rfl ?_)
      obtain ⟨M34, h33, hf⟩ := zbind hf
      refine z_callI C [] [zv n0 x29] g31 ki_V_9 (c_S_init D n0 l g31 h33) ⟨(Nat.le_of_ble_eq_true rfl), (Nat.le_of_ble_eq_true rfl)⟩ (Nat.le_of_ble_eq_true rfl) ⟨(Nat.le_of_ble_eq_true rfl), (Nat.le_of_ble_eq_true rfl)⟩ d_V_room_32 (z_pc (pc' := 35) rfl ?_)
      refine z_astore_n C d_V_room_35 (by decide) (z_pl (pc' := 36) (L' := [some (zv n0 a0), some (zi a1), some (zv n0 x29)]) rfl rfl ?_)
      refine z_goto (tgt := 47) C d_V_room_36 (by decide) ?_
      refine z_aload_n C d_V_room_47 rfl (z_pc (pc' := 48) rfl ?_)
      refine z_aload_n C d_V_room_48 rfl (z_pc (pc' := 49) rfl ?_)
      obtain ⟨x35, h36, hf⟩ := zbind hf
      refine z_getr C fl_V_16 rfl h36 d_V_room_49 (z_pc (pc' := 52) rfl ?_)
      obtain ⟨x37, h38, hf⟩ := zbind hf
      refine z_geti C fl_V_88 h38 d_V_room_52 (z_pc (pc' := 55) rfl ?_)
      refine z_iconst C d_V_room_55 (z_pc (pc' := 56) rfl ?_)
      refine z_iadd C d_V_room_56 (z_pc (pc' := 57) rfl ?_)
      obtain ⟨M40, h39, hf⟩ := zbind hf
      refine z_callV C [zi (zadd x37 1)] [] kv_V_91 (c_S_begin D n0 l h39) (e_S_begin h39) ⟨(Nat.le_of_ble_eq_true rfl), (Nat.le_of_ble_eq_true rfl)⟩ (Nat.le_of_ble_eq_true rfl) ⟨(Nat.le_of_ble_eq_true rfl), (Nat.le_of_ble_eq_true rfl)⟩ d_V_room_57 (z_pc (pc' := 60) rfl ?_)
      refine z_aload_n C d_V_room_60 rfl (z_pc (pc' := 61) rfl ?_)
      obtain ⟨x41, h42, hf⟩ := zbind hf
      refine z_getr C fl_V_16 rfl h42 d_V_room_61 (z_pc (pc' := 64) rfl ?_)
      refine z_aload_n C d_V_room_64 rfl (z_pc (pc' := 65) rfl ?_)
      obtain ⟨M43, h44, hf⟩ := zbind hf
      refine z_putr C fp_V_85 rfl (by decide) rfl h44 d_V_room_65 (z_pc (pc' := 68) rfl ?_)
      refine z_aload_n C d_V_room_68 rfl (z_pc (pc' := 69) rfl ?_)
      refine z_aload_n C d_V_room_69 rfl (z_pc (pc' := 70) rfl ?_)
      obtain ⟨M45, h46, hf⟩ := zbind hf
      refine z_putr C fp_V_16 rfl (by decide) rfl h46 d_V_room_70 (z_pc (pc' := 73) rfl ?_)
      refine z_aload_n C d_V_room_73 rfl (z_pc (pc' := 74) rfl ?_)
      refine z_dupr C d_V_room_74 (z_pc (pc' := 75) rfl ?_)
      obtain ⟨x47, h48, hf⟩ := zbind hf
      refine z_geti C fl_V_19 h48 d_V_room_75 (z_pc (pc' := 78) rfl ?_)
      refine z_iconst C d_V_room_78 (z_pc (pc' := 79) rfl ?_)
      refine z_iadd C d_V_room_79 (z_pc (pc' := 80) rfl ?_)
      obtain ⟨M49, h50, hf⟩ := zbind hf
      refine z_puti C fp_V_19 (by decide) rfl h50 d_V_room_80 (z_pc (pc' := 83) rfl ?_)
      refine z_aload_n C d_V_room_83 rfl (z_pc (pc' := 84) rfl ?_)
      exact z_aret C hr (Or.inl ⟨_, rfl⟩) (Nat.le_of_ble_eq_true rfl) (Nat.le_of_ble_eq_true rfl) d_V_room_84 hf
  · have hf := zneg c5 hf
    refine z_aload_n C d_V_room_14 rfl (z_pc (pc' := 15) rfl ?_)
    obtain ⟨x51, h52, hf⟩ := zbind hf
    refine z_getr C fl_V_16 rfl h52 d_V_room_15 (z_pc (pc' := 18) rfl ?_)
    exact z_aret C hr (Or.inl ⟨_, rfl⟩) (Nat.le_of_ble_eq_true rfl) (Nat.le_of_ble_eq_true rfl) d_V_room_18 hf
theorem e_V_free {a0 : Nat} {a1 : Nat} {M : zHp} {q : zHp} (hf : f_V_free a0 a1 M = some q) : zk M a0 = 0 := by
  unfold f_V_free at hf
  exact (zif hf).1
set_option maxHeartbeats 4000000 in
set_option maxRecDepth 100000 in
theorem c_V_free (D : va_G) (n0 : Nat) (l : Launch) {a0 : Nat} {a1 : Nat} {M : zHp} {M' : zHp} (hf : f_V_free a0 a1 M = some M') : zM D n0 l y_V_free b_V_free 2 none 0 0 0 0 [zv n0 a0, zv n0 a1] M none M' := by
  refine zM.ofZ (by decide) (zcr (zcr zcn)) (Nat.le_of_ble_eq_true rfl) ?_
  intro p e s m below meth c C hr hnm
  have C : zC D n0 p s m meth c b_V_free 2 "LayerVault" := C
  refine z_eqL (L' := [some (zv n0 a0), some (zv n0 a1)]) rfl ?_
  unfold f_V_free at hf
  have hf := (zif hf).2
  refine z_aload_n C d_V_free_0 rfl (z_pc (pc' := 1) rfl ?_)
  refine z_aload_n C d_V_free_1 rfl (z_pc (pc' := 2) rfl ?_)
  obtain ⟨x1, h2, hf⟩ := zbind hf
  refine z_getr C fl_V_82 rfl h2 d_V_free_2 (z_pc (pc' := 5) rfl ?_)
  obtain ⟨M3, h4, hf⟩ := zbind hf
  refine z_putr C fp_V_85 rfl (by decide) rfl h4 d_V_free_5 (z_pc (pc' := 8) rfl ?_)
  refine z_aload_n C d_V_free_8 rfl (z_pc (pc' := 9) rfl ?_)
  refine z_aload_n C d_V_free_9 rfl (z_pc (pc' := 10) rfl ?_)
  obtain ⟨M5, h6, hf⟩ := zbind hf
  refine z_putr C fp_V_82 rfl (by decide) rfl h6 d_V_free_10 (z_pc (pc' := 13) rfl ?_)
  refine z_aload_n C d_V_free_13 rfl (z_pc (pc' := 14) rfl ?_)
  refine z_dupr C d_V_free_14 (z_pc (pc' := 15) rfl ?_)
  obtain ⟨x7, h8, hf⟩ := zbind hf
  refine z_geti C fl_V_19 h8 d_V_free_15 (z_pc (pc' := 18) rfl ?_)
  refine z_iconst C d_V_free_18 (z_pc (pc' := 19) rfl ?_)
  refine z_isub C d_V_free_19 (z_pc (pc' := 20) rfl ?_)
  obtain ⟨M9, h10, hf⟩ := zbind hf
  refine z_puti C fp_V_19 (by decide) rfl h10 d_V_free_20 (z_pc (pc' := 23) rfl ?_)
  exact z_vret C hr (Nat.le_of_ble_eq_true rfl) (Nat.le_of_ble_eq_true rfl) d_V_free_23 hf
