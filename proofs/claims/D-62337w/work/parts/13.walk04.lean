-- walks (printed by main.py)
set_option maxHeartbeats 4000000 in
set_option maxRecDepth 100000 in
theorem w_Md_choose_L2 {D : va_G} {n0 : Nat} {l : Launch} {p : Program} {e : Env} {s : State} {m : MethodId} {args : Array Value} {below : List Frame} {meth : Method} {c : Code} {a0 : Nat} {a1 : Int} {a2 : Int} {M' : zHp} {κ : zHp → Option (zHp)} (C : zC D n0 p s m meth c b_Md_choose 4 "LayerVaultModel") (hr : meth.sig.returnType = none)
    (hκ : ∀ (M1 : zHp), κ M1 = some M' → zZ D n0 p l e { frames := 0, cells := 0, slots := 0, locals := 0 } s m args below meth c 4 0 0 (MQ below (zQc D n0 none M') args s 0 0 (fun q => n0 ≤ q)) 47 [none, none, none, none] [] M1) :
    ∀ (n : Nat) (v3 : Int) (M : zHp), f_Md_choose_L2 κ a0 a1 a2 n v3 M = some M' → zZ D n0 p l e { frames := 0, cells := 0, slots := 0, locals := 0 } s m args below meth c 4 0 0 (MQ below (zQc D n0 none M') args s 0 0 (fun q => n0 ≤ q)) 2 [some (zv n0 a0), some (zi a1), some (zi a2), some (zi v3)] [] M := by
  intro n
  induction n with
  | zero =>
    intro v3 M hf
    exact absurd hf (by unfold f_Md_choose_L2; simp)
  | succ n ih =>
    intro v3 M hf
    unfold f_Md_choose_L2 at hf
    refine z_iload_n C d_Md_choose_2 rfl (z_pc (pc' := 3) rfl ?_)
    refine z_aload_n C d_Md_choose_3 rfl (z_pc (pc' := 4) rfl ?_)
    obtain ⟨x1, h2, hf⟩ := zbind hf
    refine z_geti C fl_Md_75 h2 d_Md_choose_4 (z_pc (pc' := 7) rfl ?_)
    refine z_icmp_ge (tgt := 47) C d_Md_choose_7 (by decide) (fun c3 => ?_) (fun c3 => z_pc (pc' := 10) rfl ?_)
    · have hf := zpos c3 hf
      exact z_sub2 (hκ _ hf) trivial
    · have hf := zneg c3 hf
      refine z_aload_n C d_Md_choose_10 rfl (z_pc (pc' := 11) rfl ?_)
      obtain ⟨x4, h5, hf⟩ := zbind hf
      refine z_getr C fl_Md_38 rfl h5 d_Md_choose_11 (z_pc (pc' := 14) rfl ?_)
      refine z_iload_n C d_Md_choose_14 rfl (z_pc (pc' := 15) rfl ?_)
      refine z_aload_n C d_Md_choose_15 rfl (z_pc (pc' := 16) rfl ?_)
      obtain ⟨x6, h7, hf⟩ := zbind hf
      refine z_getr C fl_Md_26 rfl h7 d_Md_choose_16 (z_pc (pc' := 19) rfl ?_)
      refine z_iload_n C d_Md_choose_19 rfl (z_pc (pc' := 20) rfl ?_)
      obtain ⟨x8, h9, hf⟩ := zbind hf
      refine z_iald C h9 d_Md_choose_20 (z_pc (pc' := 21) rfl ?_)
      refine z_iload_n C d_Md_choose_21 rfl (z_pc (pc' := 22) rfl ?_)
      refine z_icmp_eq (tgt := 35) C d_Md_choose_22 (by decide) (fun c10 => ?_) (fun c10 => z_pc (pc' := 25) rfl ?_)
      · have hf := zpos c10 hf
        refine z_iconst C d_Md_choose_35 (z_pc (pc' := 36) rfl ?_)
        refine z_goto (tgt := 40) C d_Md_choose_36 (by decide) ?_
        obtain ⟨M11, h12, hf⟩ := zbind hf
        refine z_bast C h12 d_Md_choose_40 (z_pc (pc' := 41) rfl ?_)
        refine z_iinc C d_Md_choose_41 rfl (by decide) (z_pl (pc' := 44) (L' := [some (zv n0 a0), some (zi a1), some (zi a2), some (zi (zadd v3 1))]) rfl rfl ?_)
        refine z_goto (tgt := 2) C d_Md_choose_44 (by decide) ?_
        exact z_sub2 (ih _ _ hf) (And.intro rfl (And.intro rfl (And.intro rfl (And.intro rfl trivial))))
      · have hf := zneg c10 hf
        refine z_aload_n C d_Md_choose_25 rfl (z_pc (pc' := 26) rfl ?_)
        obtain ⟨x13, h14, hf⟩ := zbind hf
        refine z_getr C fl_Md_26 rfl h14 d_Md_choose_26 (z_pc (pc' := 29) rfl ?_)
        refine z_iload_n C d_Md_choose_29 rfl (z_pc (pc' := 30) rfl ?_)
        obtain ⟨x15, h16, hf⟩ := zbind hf
        refine z_iald C h16 d_Md_choose_30 (z_pc (pc' := 31) rfl ?_)
        refine z_iload_n C d_Md_choose_31 rfl (z_pc (pc' := 32) rfl ?_)
        refine z_icmp_ne (tgt := 39) C d_Md_choose_32 (by decide) (fun c17 => ?_) (fun c17 => z_pc (pc' := 35) rfl ?_)
        · have hf := zneg c17 hf
          refine z_iconst C d_Md_choose_39 (z_pc (pc' := 40) rfl ?_)
          obtain ⟨M18, h19, hf⟩ := zbind hf
          refine z_bast C h19 d_Md_choose_40 (z_pc (pc' := 41) rfl ?_)
          refine z_iinc C d_Md_choose_41 rfl (by decide) (z_pl (pc' := 44) (L' := [some (zv n0 a0), some (zi a1), some (zi a2), some (zi (zadd v3 1))]) rfl rfl ?_)
          refine z_goto (tgt := 2) C d_Md_choose_44 (by decide) ?_
          exact z_sub2 (ih _ _ hf) (And.intro rfl (And.intro rfl (And.intro rfl (And.intro rfl trivial))))
        · have hf := zpos c17 hf
          refine z_iconst C d_Md_choose_35 (z_pc (pc' := 36) rfl ?_)
          refine z_goto (tgt := 40) C d_Md_choose_36 (by decide) ?_
          obtain ⟨M20, h21, hf⟩ := zbind hf
          refine z_bast C h21 d_Md_choose_40 (z_pc (pc' := 41) rfl ?_)
          refine z_iinc C d_Md_choose_41 rfl (by decide) (z_pl (pc' := 44) (L' := [some (zv n0 a0), some (zi a1), some (zi a2), some (zi (zadd v3 1))]) rfl rfl ?_)
          refine z_goto (tgt := 2) C d_Md_choose_44 (by decide) ?_
          exact z_sub2 (ih _ _ hf) (And.intro rfl (And.intro rfl (And.intro rfl (And.intro rfl trivial))))
theorem e_Md_choose {a0 : Nat} {a1 : Int} {a2 : Int} {M : zHp} {q : zHp} (hf : f_Md_choose a0 a1 a2 M = some q) : zk M a0 = 8 := by
  unfold f_Md_choose at hf
  exact (zif hf).1
set_option maxHeartbeats 4000000 in
set_option maxRecDepth 100000 in
theorem c_Md_choose (D : va_G) (n0 : Nat) (l : Launch) {a0 : Nat} {a1 : Int} {a2 : Int} {M : zHp} {M' : zHp} (hf : f_Md_choose a0 a1 a2 M = some M') : zM D n0 l y_Md_choose b_Md_choose 4 none 0 0 0 0 [zv n0 a0, zi a1, zi a2] M none M' := by
  refine zM.ofZ (by decide) (zcr (zci (zci zcn))) (Nat.le_of_ble_eq_true rfl) ?_
  intro p e s m below meth c C hr hnm
  have C : zC D n0 p s m meth c b_Md_choose 4 "LayerVaultModel" := C
  refine z_eqL (L' := [some (zv n0 a0), some (zi a1), some (zi a2), none]) rfl ?_
  unfold f_Md_choose at hf
  have hf := (zif hf).2
  refine z_iconst C d_Md_choose_0 (z_pc (pc' := 1) rfl ?_)
  refine z_istore_n C d_Md_choose_1 (by decide) (z_pl (pc' := 2) (L' := [some (zv n0 a0), some (zi a1), some (zi a2), some (zi 0)]) rfl rfl ?_)
  refine z_sub2 (w_Md_choose_L2 C hr ?_ _ _ _ hf) (And.intro rfl (And.intro rfl (And.intro rfl (And.intro rfl trivial))))
  intro M22 hf
  exact z_vret C hr (Nat.le_of_ble_eq_true rfl) (Nat.le_of_ble_eq_true rfl) d_Md_choose_47 hf
theorem e_Md_mergeNext {a0 : Nat} {M : zHp} {q : Int × zHp} (hf : f_Md_mergeNext a0 M = some q) : zk M a0 = 8 := by
  unfold f_Md_mergeNext at hf
  exact (zif hf).1
set_option maxHeartbeats 4000000 in
set_option maxRecDepth 100000 in
theorem c_Md_mergeNext (D : va_G) (n0 : Nat) (l : Launch) {a0 : Nat} {M : zHp} {r : Int} {M' : zHp} (hf : f_Md_mergeNext a0 M = some (r, M')) : zM D n0 l y_Md_mergeNext b_Md_mergeNext 1 (some .int) 2 47 0 0 [zv n0 a0] M (some (zi r)) M' := by
  refine zM.ofZ (by decide) (zcr zcn) (Nat.le_of_ble_eq_true rfl) ?_
  intro p e s m below meth c C hr hnm
  have C : zC D n0 p s m meth c b_Md_mergeNext 1 "LayerVaultModel" := C
  refine z_eqL (L' := [some (zv n0 a0)]) rfl ?_
  unfold f_Md_mergeNext at hf
  have hf := (zif hf).2
  refine z_aload_n C d_Md_mergeNext_0 rfl (z_pc (pc' := 1) rfl ?_)
  refine z_iconst C d_Md_mergeNext_1 (z_pc (pc' := 2) rfl ?_)
  refine z_iconst C d_Md_mergeNext_2 (z_pc (pc' := 3) rfl ?_)
  obtain ⟨M2, h1, hf⟩ := zbind hf
  refine z_callV C [zi 1, zi 2] [] kv_Md_99 (c_Md_choose D n0 l h1) (e_Md_choose h1) ⟨(Nat.le_of_ble_eq_true rfl), (Nat.le_of_ble_eq_true rfl)⟩ (Nat.le_of_ble_eq_true rfl) ⟨(Nat.le_of_ble_eq_true rfl), (Nat.le_of_ble_eq_true rfl)⟩ d_Md_mergeNext_3 (z_pc (pc' := 6) rfl ?_)
  refine z_aload_n C d_Md_mergeNext_6 rfl (z_pc (pc' := 7) rfl ?_)
  refine z_iconst C d_Md_mergeNext_7 (z_pc (pc' := 8) rfl ?_)
  obtain ⟨x5, M4, h3, hf⟩ := zb2_inv hf
  refine z_callV C [zi 2] [] kv_Md_103 (c_Md_sift D n0 l h3) (e_Md_sift h3) ⟨(Nat.le_of_ble_eq_true rfl), (Nat.le_of_ble_eq_true rfl)⟩ (Nat.le_of_ble_eq_true rfl) ⟨(Nat.le_of_ble_eq_true rfl), (Nat.le_of_ble_eq_true rfl)⟩ d_Md_mergeNext_8 (z_pc (pc' := 11) rfl ?_)
  exact z_iret C hr (Nat.le_of_ble_eq_true rfl) (Nat.le_of_ble_eq_true rfl) d_Md_mergeNext_11 hf
theorem e_Md_mergeOf {a0 : Nat} {a1 : Int} {M : zHp} {q : Int × zHp} (hf : f_Md_mergeOf a0 a1 M = some q) : zk M a0 = 8 := by
  unfold f_Md_mergeOf at hf
  exact (zif hf).1
set_option maxHeartbeats 4000000 in
set_option maxRecDepth 100000 in
theorem c_Md_mergeOf (D : va_G) (n0 : Nat) (l : Launch) {a0 : Nat} {a1 : Int} {M : zHp} {r : Int} {M' : zHp} (hf : f_Md_mergeOf a0 a1 M = some (r, M')) : zM D n0 l y_Md_mergeOf b_Md_mergeOf 3 (some .int) 3 67 0 0 [zv n0 a0, zi a1] M (some (zi r)) M' := by
  refine zM.ofZ (by decide) (zcr (zci zcn)) (Nat.le_of_ble_eq_true rfl) ?_
  intro p e s m below meth c C hr hnm
  have C : zC D n0 p s m meth c b_Md_mergeOf 3 "LayerVaultModel" := C
  refine z_eqL (L' := [some (zv n0 a0), some (zi a1), none]) rfl ?_
  unfold f_Md_mergeOf at hf
  have hf := (zif hf).2
  refine z_aload_n C d_Md_mergeOf_0 rfl (z_pc (pc' := 1) rfl ?_)
  refine z_iload_n C d_Md_mergeOf_1 rfl (z_pc (pc' := 2) rfl ?_)
  refine z_iload_n C d_Md_mergeOf_2 rfl (z_pc (pc' := 3) rfl ?_)
  refine z_iconst C d_Md_mergeOf_3 (z_pc (pc' := 4) rfl ?_)
  refine z_iadd C d_Md_mergeOf_4 (z_pc (pc' := 5) rfl ?_)
  obtain ⟨M2, h1, hf⟩ := zbind hf
  refine z_callV C [zi a1, zi (zadd a1 1)] [] kv_Md_99 (c_Md_choose D n0 l h1) (e_Md_choose h1) ⟨(Nat.le_of_ble_eq_true rfl), (Nat.le_of_ble_eq_true rfl)⟩ (Nat.le_of_ble_eq_true rfl) ⟨(Nat.le_of_ble_eq_true rfl), (Nat.le_of_ble_eq_true rfl)⟩ d_Md_mergeOf_5 (z_pc (pc' := 8) rfl ?_)
  refine z_aload_n C d_Md_mergeOf_8 rfl (z_pc (pc' := 9) rfl ?_)
  refine z_iload_n C d_Md_mergeOf_9 rfl (z_pc (pc' := 10) rfl ?_)
  refine z_iconst C d_Md_mergeOf_10 (z_pc (pc' := 11) rfl ?_)
  refine z_iadd C d_Md_mergeOf_11 (z_pc (pc' := 12) rfl ?_)
  obtain ⟨x5, M4, h3, hf⟩ := zb2_inv hf
  refine z_callV C [zi (zadd a1 1)] [] kv_Md_103 (c_Md_sift D n0 l h3) (e_Md_sift h3) ⟨(Nat.le_of_ble_eq_true rfl), (Nat.le_of_ble_eq_true rfl)⟩ (Nat.le_of_ble_eq_true rfl) ⟨(Nat.le_of_ble_eq_true rfl), (Nat.le_of_ble_eq_true rfl)⟩ d_Md_mergeOf_12 (z_pc (pc' := 15) rfl ?_)
  refine z_istore_n C d_Md_mergeOf_15 (by decide) (z_pl (pc' := 16) (L' := [some (zv n0 a0), some (zi a1), some (zi x5)]) rfl rfl ?_)
  refine z_iload_n C d_Md_mergeOf_16 rfl (z_pc (pc' := 17) rfl ?_)
  refine z_if_ne (tgt := 25) C d_Md_mergeOf_17 (by decide) (fun c6 => ?_) (fun c6 => z_pc (pc' := 20) rfl ?_)
  · have hf := zneg c6 hf
    refine z_iload_n C d_Md_mergeOf_25 rfl (z_pc (pc' := 26) rfl ?_)
    refine z_if_ne (tgt := 46) C d_Md_mergeOf_26 (by decide) (fun c7 => ?_) (fun c7 => z_pc (pc' := 29) rfl ?_)
    · have hf := zneg c7 hf
      refine z_aload_n C d_Md_mergeOf_46 rfl (z_pc (pc' := 47) rfl ?_)
      obtain ⟨M9, h8, hf⟩ := zbind hf
      refine z_callV C [] [] kv_Md_116 (c_Md_arrange D n0 l h8) (e_Md_arrange h8) ⟨(Nat.le_of_ble_eq_true rfl), (Nat.le_of_ble_eq_true rfl)⟩ (Nat.le_of_ble_eq_true rfl) ⟨(Nat.le_of_ble_eq_true rfl), (Nat.le_of_ble_eq_true rfl)⟩ d_Md_mergeOf_47 (z_pc (pc' := 50) rfl ?_)
      refine z_iload_n C d_Md_mergeOf_50 rfl (z_pc (pc' := 51) rfl ?_)
      exact z_iret C hr (Nat.le_of_ble_eq_true rfl) (Nat.le_of_ble_eq_true rfl) d_Md_mergeOf_51 hf
    · have hf := zpos c7 hf
      refine z_aload_n C d_Md_mergeOf_29 rfl (z_pc (pc' := 30) rfl ?_)
      refine z_iconst C d_Md_mergeOf_30 (z_pc (pc' := 31) rfl ?_)
      obtain ⟨x12, M11, h10, hf⟩ := zb2_inv hf
      refine z_callV C [zi 1] [] kv_Md_109 (c_Md_size D n0 l h10) (e_Md_size h10) ⟨(Nat.le_of_ble_eq_true rfl), (Nat.le_of_ble_eq_true rfl)⟩ (Nat.le_of_ble_eq_true rfl) ⟨(Nat.le_of_ble_eq_true rfl), (Nat.le_of_ble_eq_true rfl)⟩ d_Md_mergeOf_31 (z_pc (pc' := 34) rfl ?_)
      refine z_bipush C d_Md_mergeOf_34 (by decide) (z_pc (pc' := 36) rfl ?_)
      refine z_icmp_le (tgt := 46) C d_Md_mergeOf_36 (by decide) (fun c13 => ?_) (fun c13 => z_pc (pc' := 39) rfl ?_)
      · have hf := zpos c13 hf
        refine z_aload_n C d_Md_mergeOf_46 rfl (z_pc (pc' := 47) rfl ?_)
        obtain ⟨M15, h14, hf⟩ := zbind hf
        refine z_callV C [] [] kv_Md_116 (c_Md_arrange D n0 l h14) (e_Md_arrange h14) ⟨(Nat.le_of_ble_eq_true rfl), (Nat.le_of_ble_eq_true rfl)⟩ (Nat.le_of_ble_eq_true rfl) ⟨(Nat.le_of_ble_eq_true rfl), (Nat.le_of_ble_eq_true rfl)⟩ d_Md_mergeOf_47 (z_pc (pc' := 50) rfl ?_)
        refine z_iload_n C d_Md_mergeOf_50 rfl (z_pc (pc' := 51) rfl ?_)
        exact z_iret C hr (Nat.le_of_ble_eq_true rfl) (Nat.le_of_ble_eq_true rfl) d_Md_mergeOf_51 hf
      · have hf := zneg c13 hf
        refine z_iload_n C d_Md_mergeOf_39 rfl (z_pc (pc' := 40) rfl ?_)
        refine z_aload_n C d_Md_mergeOf_40 rfl (z_pc (pc' := 41) rfl ?_)
        obtain ⟨x18, M17, h16, hf⟩ := zb2_inv hf
        refine z_callV C [] [zi x5] kv_Md_112 (c_Md_mergeNext D n0 l h16) (e_Md_mergeNext h16) ⟨(Nat.le_of_ble_eq_true rfl), (Nat.le_of_ble_eq_true rfl)⟩ (Nat.le_of_ble_eq_true rfl) ⟨(Nat.le_of_ble_eq_true rfl), (Nat.le_of_ble_eq_true rfl)⟩ d_Md_mergeOf_41 (z_pc (pc' := 44) rfl ?_)
        refine z_iadd C d_Md_mergeOf_44 (z_pc (pc' := 45) rfl ?_)
        refine z_istore_n C d_Md_mergeOf_45 (by decide) (z_pl (pc' := 46) (L' := [some (zv n0 a0), some (zi a1), some (zi (zadd x5 x18))]) rfl rfl ?_)
        refine z_aload_n C d_Md_mergeOf_46 rfl (z_pc (pc' := 47) rfl ?_)
        obtain ⟨M20, h19, hf⟩ := zbind hf
        refine z_callV C [] [] kv_Md_116 (c_Md_arrange D n0 l h19) (e_Md_arrange h19) ⟨(Nat.le_of_ble_eq_true rfl), (Nat.le_of_ble_eq_true rfl)⟩ (Nat.le_of_ble_eq_true rfl) ⟨(Nat.le_of_ble_eq_true rfl), (Nat.le_of_ble_eq_true rfl)⟩ d_Md_mergeOf_47 (z_pc (pc' := 50) rfl ?_)
        refine z_iload_n C d_Md_mergeOf_50 rfl (z_pc (pc' := 51) rfl ?_)
        exact z_iret C hr (Nat.le_of_ble_eq_true rfl) (Nat.le_of_ble_eq_true rfl) d_Md_mergeOf_51 hf
  · have hf := zpos c6 hf
    refine z_aload_n C d_Md_mergeOf_20 rfl (z_pc (pc' := 21) rfl ?_)
    refine z_iconst C d_Md_mergeOf_21 (z_pc (pc' := 22) rfl ?_)
    obtain ⟨M21, h22, hf⟩ := zbind hf
    refine z_puti C fp_Md_106 (by decide) rfl h22 d_Md_mergeOf_22 (z_pc (pc' := 25) rfl ?_)
    refine z_iload_n C d_Md_mergeOf_25 rfl (z_pc (pc' := 26) rfl ?_)
    refine z_if_ne (tgt := 46) C d_Md_mergeOf_26 (by decide) (fun c23 => ?_) (fun c23 => z_pc (pc' := 29) rfl ?_)
    · have hf := zneg c23 hf
      refine z_aload_n C d_Md_mergeOf_46 rfl (z_pc (pc' := 47) rfl ?_)
      obtain ⟨M25, h24, hf⟩ := zbind hf
      refine z_callV C [] [] kv_Md_116 (c_Md_arrange D n0 l h24) (e_Md_arrange h24) ⟨(Nat.le_of_ble_eq_true rfl), (Nat.le_of_ble_eq_true rfl)⟩ (Nat.le_of_ble_eq_true rfl) ⟨(Nat.le_of_ble_eq_true rfl), (Nat.le_of_ble_eq_true rfl)⟩ d_Md_mergeOf_47 (z_pc (pc' := 50) rfl ?_)
      refine z_iload_n C d_Md_mergeOf_50 rfl (z_pc (pc' := 51) rfl ?_)
      exact z_iret C hr (Nat.le_of_ble_eq_true rfl) (Nat.le_of_ble_eq_true rfl) d_Md_mergeOf_51 hf
    · have hf := zpos c23 hf
      refine z_aload_n C d_Md_mergeOf_29 rfl (z_pc (pc' := 30) rfl ?_)
      refine z_iconst C d_Md_mergeOf_30 (z_pc (pc' := 31) rfl ?_)
      obtain ⟨x28, M27, h26, hf⟩ := zb2_inv hf
      refine z_callV C [zi 1] [] kv_Md_109 (c_Md_size D n0 l h26) (e_Md_size h26) ⟨(Nat.le_of_ble_eq_true rfl), (Nat.le_of_ble_eq_true rfl)⟩ (Nat.le_of_ble_eq_true rfl) ⟨(Nat.le_of_ble_eq_true rfl), (Nat.le_of_ble_eq_true rfl)⟩ d_Md_mergeOf_31 (z_pc (pc' := 34) rfl ?_)
      refine z_bipush C d_Md_mergeOf_34 (by decide) (z_pc (pc' := 36) rfl ?_)
      refine z_icmp_le (tgt := 46) C d_Md_mergeOf_36 (by decide) (fun c29 => ?_) (fun c29 => z_pc (pc' := 39) rfl ?_)
      · have hf := zpos c29 hf
        refine z_aload_n C d_Md_mergeOf_46 rfl (z_pc (pc' := 47) rfl ?_)
        obtain ⟨M31, h30, hf⟩ := zbind hf
        refine z_callV C [] [] kv_Md_116 (c_Md_arrange D n0 l h30) (e_Md_arrange h30) ⟨(Nat.le_of_ble_eq_true rfl), (Nat.le_of_ble_eq_true rfl)⟩ (Nat.le_of_ble_eq_true rfl) ⟨(Nat.le_of_ble_eq_true rfl), (Nat.le_of_ble_eq_true rfl)⟩ d_Md_mergeOf_47 (z_pc (pc' := 50) rfl ?_)
        refine z_iload_n C d_Md_mergeOf_50 rfl (z_pc (pc' := 51) rfl ?_)
        exact z_iret C hr (Nat.le_of_ble_eq_true rfl) (Nat.le_of_ble_eq_true rfl) d_Md_mergeOf_51 hf
      · have hf := zneg c29 hf
        refine z_iload_n C d_Md_mergeOf_39 rfl (z_pc (pc' := 40) rfl ?_)
        refine z_aload_n C d_Md_mergeOf_40 rfl (z_pc (pc' := 41) rfl ?_)
        obtain ⟨x34, M33, h32, hf⟩ := zb2_inv hf
        refine z_callV C [] [zi x5] kv_Md_112 (c_Md_mergeNext D n0 l h32) (e_Md_mergeNext h32) ⟨(Nat.le_of_ble_eq_true rfl), (Nat.le_of_ble_eq_true rfl)⟩ (Nat.le_of_ble_eq_true rfl) ⟨(Nat.le_of_ble_eq_true rfl), (Nat.le_of_ble_eq_true rfl)⟩ d_Md_mergeOf_41 (z_pc (pc' := 44) rfl ?_)
        refine z_iadd C d_Md_mergeOf_44 (z_pc (pc' := 45) rfl ?_)
        refine z_istore_n C d_Md_mergeOf_45 (by decide) (z_pl (pc' := 46) (L' := [some (zv n0 a0), some (zi a1), some (zi (zadd x5 x34))]) rfl rfl ?_)
        refine z_aload_n C d_Md_mergeOf_46 rfl (z_pc (pc' := 47) rfl ?_)
        obtain ⟨M36, h35, hf⟩ := zbind hf
        refine z_callV C [] [] kv_Md_116 (c_Md_arrange D n0 l h35) (e_Md_arrange h35) ⟨(Nat.le_of_ble_eq_true rfl), (Nat.le_of_ble_eq_true rfl)⟩ (Nat.le_of_ble_eq_true rfl) ⟨(Nat.le_of_ble_eq_true rfl), (Nat.le_of_ble_eq_true rfl)⟩ d_Md_mergeOf_47 (z_pc (pc' := 50) rfl ?_)
        refine z_iload_n C d_Md_mergeOf_50 rfl (z_pc (pc' := 51) rfl ?_)
        exact z_iret C hr (Nat.le_of_ble_eq_true rfl) (Nat.le_of_ble_eq_true rfl) d_Md_mergeOf_51 hf
set_option maxHeartbeats 4000000 in
set_option maxRecDepth 100000 in
theorem w_Md_flushAll_L57 {D : va_G} {n0 : Nat} {l : Launch} {p : Program} {e : Env} {s : State} {m : MethodId} {args : Array Value} {below : List Frame} {meth : Method} {c : Code} {a0 : Nat} {M' : zHp} {κ : zHp → Option (zHp)} (C : zC D n0 p s m meth c b_Md_flushAll 2 "LayerVaultModel") (hr : meth.sig.returnType = none)
    (hκ : ∀ (M1 : zHp), κ M1 = some M' → zZ D n0 p l e { frames := 4, cells := 0, slots := 0, locals := 89 } s m args below meth c 2 0 0 (MQ below (zQc D n0 none M') args s 0 0 (fun q => n0 ≤ q)) 99 [some (zv n0 a0), none] [] M1) :
    ∀ (n : Nat) (v1 : Int) (M : zHp), f_Md_flushAll_L57 κ a0 n v1 M = some M' → zZ D n0 p l e { frames := 4, cells := 0, slots := 0, locals := 89 } s m args below meth c 2 0 0 (MQ below (zQc D n0 none M') args s 0 0 (fun q => n0 ≤ q)) 57 [some (zv n0 a0), some (zi v1)] [] M := by
  intro n
  induction n with
  | zero =>
    intro v1 M hf
    exact absurd hf (by unfold f_Md_flushAll_L57; simp)
  | succ n ih =>
    intro v1 M hf
    unfold f_Md_flushAll_L57 at hf
    refine z_iload_n C d_Md_flushAll_57 rfl (z_pc (pc' := 58) rfl ?_)
    refine z_aload_n C d_Md_flushAll_58 rfl (z_pc (pc' := 59) rfl ?_)
    obtain ⟨x21, h22, hf⟩ := zbind hf
    refine z_geti C fl_Md_75 h22 d_Md_flushAll_59 (z_pc (pc' := 62) rfl ?_)
    refine z_icmp_ge (tgt := 99) C d_Md_flushAll_62 (by decide) (fun c23 => ?_) (fun c23 => z_pc (pc' := 65) rfl ?_)
    · have hf := zpos c23 hf
      exact z_sub2 (hκ _ hf) (And.intro rfl trivial)
    · have hf := zneg c23 hf
      refine z_aload_n C d_Md_flushAll_65 rfl (z_pc (pc' := 66) rfl ?_)
      obtain ⟨x24, h25, hf⟩ := zbind hf
      refine z_getr C fl_Md_38 rfl h25 d_Md_flushAll_66 (z_pc (pc' := 69) rfl ?_)
      refine z_iload_n C d_Md_flushAll_69 rfl (z_pc (pc' := 70) rfl ?_)
      obtain ⟨x26, h27, hf⟩ := zbind hf
      refine z_bald C h27 d_Md_flushAll_70 (z_pc (pc' := 71) rfl ?_)
      refine z_if_eq (tgt := 93) C d_Md_flushAll_71 (by decide) (fun c28 => ?_) (fun c28 => z_pc (pc' := 74) rfl ?_)
      · have hf := zpos c28 hf
        refine z_iinc C d_Md_flushAll_93 rfl (by decide) (z_pl (pc' := 96) (L' := [some (zv n0 a0), some (zi (zadd v1 1))]) rfl rfl ?_)
        refine z_goto (tgt := 57) C d_Md_flushAll_96 (by decide) ?_
        exact z_sub2 (ih _ _ hf) (And.intro rfl (And.intro rfl trivial))
      · have hf := zneg c28 hf
        refine z_aload_n C d_Md_flushAll_74 rfl (z_pc (pc' := 75) rfl ?_)
        obtain ⟨x29, h30, hf⟩ := zbind hf
        refine z_getr C fl_Md_26 rfl h30 d_Md_flushAll_75 (z_pc (pc' := 78) rfl ?_)
        refine z_iload_n C d_Md_flushAll_78 rfl (z_pc (pc' := 79) rfl ?_)
        obtain ⟨x31, h32, hf⟩ := zbind hf
        refine z_iald C h32 d_Md_flushAll_79 (z_pc (pc' := 80) rfl ?_)
        refine z_if_ne (tgt := 93) C d_Md_flushAll_80 (by decide) (fun c33 => ?_) (fun c33 => z_pc (pc' := 83) rfl ?_)
        · have hf := zneg c33 hf
          refine z_iinc C d_Md_flushAll_93 rfl (by decide) (z_pl (pc' := 96) (L' := [some (zv n0 a0), some (zi (zadd v1 1))]) rfl rfl ?_)
          refine z_goto (tgt := 57) C d_Md_flushAll_96 (by decide) ?_
          exact z_sub2 (ih _ _ hf) (And.intro rfl (And.intro rfl trivial))
        · have hf := zpos c33 hf
          refine z_aload_n C d_Md_flushAll_83 rfl (z_pc (pc' := 84) rfl ?_)
          obtain ⟨x34, h35, hf⟩ := zbind hf
          refine z_getr C fl_Md_29 rfl h35 d_Md_flushAll_84 (z_pc (pc' := 87) rfl ?_)
          refine z_iload_n C d_Md_flushAll_87 rfl (z_pc (pc' := 88) rfl ?_)
          refine z_aload_n C d_Md_flushAll_88 rfl (z_pc (pc' := 89) rfl ?_)
          obtain ⟨x36, h37, hf⟩ := zbind hf
          refine z_geti C fl_Md_122 h37 d_Md_flushAll_89 (z_pc (pc' := 92) rfl ?_)
          obtain ⟨M38, h39, hf⟩ := zbind hf
          refine z_iast C h39 d_Md_flushAll_92 (z_pc (pc' := 93) rfl ?_)
          refine z_iinc C d_Md_flushAll_93 rfl (by decide) (z_pl (pc' := 96) (L' := [some (zv n0 a0), some (zi (zadd v1 1))]) rfl rfl ?_)
          refine z_goto (tgt := 57) C d_Md_flushAll_96 (by decide) ?_
          exact z_sub2 (ih _ _ hf) (And.intro rfl (And.intro rfl trivial))
theorem e_Md_flushAll {a0 : Nat} {M : zHp} {q : zHp} (hf : f_Md_flushAll a0 M = some q) : zk M a0 = 8 := by
  unfold f_Md_flushAll at hf
  exact (zif hf).1
set_option maxHeartbeats 4000000 in
set_option maxRecDepth 100000 in
theorem c_Md_flushAll (D : va_G) (n0 : Nat) (l : Launch) {a0 : Nat} {M : zHp} {M' : zHp} (hf : f_Md_flushAll a0 M = some M') : zM D n0 l y_Md_flushAll b_Md_flushAll 2 none 4 89 0 0 [zv n0 a0] M none M' := by
  refine zM.ofZ (by decide) (zcr zcn) (Nat.le_of_ble_eq_true rfl) ?_
  intro p e s m below meth c C hr hnm
  have C : zC D n0 p s m meth c b_Md_flushAll 2 "LayerVaultModel" := C
  refine z_eqL (L' := [some (zv n0 a0), none]) rfl ?_
  unfold f_Md_flushAll at hf
  have hf := (zif hf).2
  refine z_aload_n C d_Md_flushAll_0 rfl (z_pc (pc' := 1) rfl ?_)
  refine z_iconst C d_Md_flushAll_1 (z_pc (pc' := 2) rfl ?_)
  obtain ⟨x3, M2, h1, hf⟩ := zb2_inv hf
  refine z_callV C [zi (-1)] [] kv_Md_109 (c_Md_size D n0 l h1) (e_Md_size h1) ⟨(Nat.le_of_ble_eq_true rfl), (Nat.le_of_ble_eq_true rfl)⟩ (Nat.le_of_ble_eq_true rfl) ⟨(Nat.le_of_ble_eq_true rfl), (Nat.le_of_ble_eq_true rfl)⟩ d_Md_flushAll_2 (z_pc (pc' := 5) rfl ?_)
  refine z_if_ne (tgt := 9) C d_Md_flushAll_5 (by decide) (fun c4 => ?_) (fun c4 => z_pc (pc' := 8) rfl ?_)
  · have hf := zneg c4 hf
    refine z_aload_n C d_Md_flushAll_9 rfl (z_pc (pc' := 10) rfl ?_)
    obtain ⟨x5, h6, hf⟩ := zbind hf
    refine z_geti C fl_Md_106 h6 d_Md_flushAll_10 (z_pc (pc' := 13) rfl ?_)
    refine z_iconst C d_Md_flushAll_13 (z_pc (pc' := 14) rfl ?_)
    refine z_icmp_ne (tgt := 23) C d_Md_flushAll_14 (by decide) (fun c7 => ?_) (fun c7 => z_pc (pc' := 17) rfl ?_)
    · have hf := zneg c7 hf
      refine z_aload_n C d_Md_flushAll_23 rfl (z_pc (pc' := 24) rfl ?_)
      refine z_iconst C d_Md_flushAll_24 (z_pc (pc' := 25) rfl ?_)
      refine z_iconst C d_Md_flushAll_25 (z_pc (pc' := 26) rfl ?_)
      obtain ⟨M9, h8, hf⟩ := zbind hf
      refine z_callV C [zi (-1), zi (-1)] [] kv_Md_99 (c_Md_choose D n0 l h8) (e_Md_choose h8) ⟨(Nat.le_of_ble_eq_true rfl), (Nat.le_of_ble_eq_true rfl)⟩ (Nat.le_of_ble_eq_true rfl) ⟨(Nat.le_of_ble_eq_true rfl), (Nat.le_of_ble_eq_true rfl)⟩ d_Md_flushAll_26 (z_pc (pc' := 29) rfl ?_)
      refine z_aload_n C d_Md_flushAll_29 rfl (z_pc (pc' := 30) rfl ?_)
      refine z_iconst C d_Md_flushAll_30 (z_pc (pc' := 31) rfl ?_)
      obtain ⟨x12, M11, h10, hf⟩ := zb2_inv hf
      refine z_callV C [zi 0] [] kv_Md_103 (c_Md_sift D n0 l h10) (e_Md_sift h10) ⟨(Nat.le_of_ble_eq_true rfl), (Nat.le_of_ble_eq_true rfl)⟩ (Nat.le_of_ble_eq_true rfl) ⟨(Nat.le_of_ble_eq_true rfl), (Nat.le_of_ble_eq_true rfl)⟩ d_Md_flushAll_31 (z_pc (pc' := 34) rfl ?_)
      refine z_popi C d_Md_flushAll_34 (z_pc (pc' := 35) rfl ?_)
      refine z_aload_n C d_Md_flushAll_35 rfl (z_pc (pc' := 36) rfl ?_)
      refine z_dupr C d_Md_flushAll_36 (z_pc (pc' := 37) rfl ?_)
      obtain ⟨x13, h14, hf⟩ := zbind hf
      refine z_geti C fl_Md_122 h14 d_Md_flushAll_37 (z_pc (pc' := 40) rfl ?_)
      refine z_iconst C d_Md_flushAll_40 (z_pc (pc' := 41) rfl ?_)
      refine z_iadd C d_Md_flushAll_41 (z_pc (pc' := 42) rfl ?_)
      obtain ⟨M15, h16, hf⟩ := zbind hf
      refine z_puti C fp_Md_122 (by decide) rfl h16 d_Md_flushAll_42 (z_pc (pc' := 45) rfl ?_)
      refine z_aload_n C d_Md_flushAll_45 rfl (z_pc (pc' := 46) rfl ?_)
      refine z_dupr C d_Md_flushAll_46 (z_pc (pc' := 47) rfl ?_)
      obtain ⟨x17, h18, hf⟩ := zbind hf
      refine z_geti C fl_Md_106 h18 d_Md_flushAll_47 (z_pc (pc' := 50) rfl ?_)
      refine z_iconst C d_Md_flushAll_50 (z_pc (pc' := 51) rfl ?_)
      refine z_iadd C d_Md_flushAll_51 (z_pc (pc' := 52) rfl ?_)
      obtain ⟨M19, h20, hf⟩ := zbind hf
      refine z_puti C fp_Md_106 (by decide) rfl h20 d_Md_flushAll_52 (z_pc (pc' := 55) rfl ?_)
      refine z_iconst C d_Md_flushAll_55 (z_pc (pc' := 56) rfl ?_)
      refine z_istore_n C d_Md_flushAll_56 (by decide) (z_pl (pc' := 57) (L' := [some (zv n0 a0), some (zi 0)]) rfl rfl ?_)
      refine z_sub2 (w_Md_flushAll_L57 C hr ?_ _ _ _ hf) (And.intro rfl (And.intro rfl trivial))
      intro M40 hf
      refine z_aload_n C d_Md_flushAll_99 rfl (z_pc (pc' := 100) rfl ?_)
      refine z_iconst C d_Md_flushAll_100 (z_pc (pc' := 101) rfl ?_)
      obtain ⟨M41, h42, hf⟩ := zbind hf
      refine z_puti C fp_Md_125 (by decide) rfl h42 d_Md_flushAll_101 (z_pc (pc' := 104) rfl ?_)
      exact z_vret C hr (Nat.le_of_ble_eq_true rfl) (Nat.le_of_ble_eq_true rfl) d_Md_flushAll_104 hf
    · have hf := zpos c7 hf
      refine z_aload_n C d_Md_flushAll_17 rfl (z_pc (pc' := 18) rfl ?_)
      refine z_iconst C d_Md_flushAll_18 (z_pc (pc' := 19) rfl ?_)
      obtain ⟨x45, M44, h43, hf⟩ := zb2_inv hf
      refine z_callV C [zi 0] [] kv_Md_119 (c_Md_mergeOf D n0 l h43) (e_Md_mergeOf h43) ⟨(Nat.le_of_ble_eq_true rfl), (Nat.le_of_ble_eq_true rfl)⟩ (Nat.le_of_ble_eq_true rfl) ⟨(Nat.le_of_ble_eq_true rfl), (Nat.le_of_ble_eq_true rfl)⟩ d_Md_flushAll_19 (z_pc (pc' := 22) rfl ?_)
      refine z_popi C d_Md_flushAll_22 (z_pc (pc' := 23) rfl ?_)
      refine z_aload_n C d_Md_flushAll_23 rfl (z_pc (pc' := 24) rfl ?_)
      refine z_iconst C d_Md_flushAll_24 (z_pc (pc' := 25) rfl ?_)
      refine z_iconst C d_Md_flushAll_25 (z_pc (pc' := 26) rfl ?_)
      obtain ⟨M47, h46, hf⟩ := zbind hf
      refine z_callV C [zi (-1), zi (-1)] [] kv_Md_99 (c_Md_choose D n0 l h46) (e_Md_choose h46) ⟨(Nat.le_of_ble_eq_true rfl), (Nat.le_of_ble_eq_true rfl)⟩ (Nat.le_of_ble_eq_true rfl) ⟨(Nat.le_of_ble_eq_true rfl), (Nat.le_of_ble_eq_true rfl)⟩ d_Md_flushAll_26 (z_pc (pc' := 29) rfl ?_)
      refine z_aload_n C d_Md_flushAll_29 rfl (z_pc (pc' := 30) rfl ?_)
      refine z_iconst C d_Md_flushAll_30 (z_pc (pc' := 31) rfl ?_)
      obtain ⟨x50, M49, h48, hf⟩ := zb2_inv hf
      refine z_callV C [zi 0] [] kv_Md_103 (c_Md_sift D n0 l h48) (e_Md_sift h48) ⟨(Nat.le_of_ble_eq_true rfl), (Nat.le_of_ble_eq_true rfl)⟩ (Nat.le_of_ble_eq_true rfl) ⟨(Nat.le_of_ble_eq_true rfl), (Nat.le_of_ble_eq_true rfl)⟩ d_Md_flushAll_31 (z_pc (pc' := 34) rfl ?_)
      refine z_popi C d_Md_flushAll_34 (z_pc (pc' := 35) rfl ?_)
      refine z_aload_n C d_Md_flushAll_35 rfl (z_pc (pc' := 36) rfl ?_)
      refine z_dupr C d_Md_flushAll_36 (z_pc (pc' := 37) rfl ?_)
      obtain ⟨x51, h52, hf⟩ := zbind hf
      refine z_geti C fl_Md_122 h52 d_Md_flushAll_37 (z_pc (pc' := 40) rfl ?_)
      refine z_iconst C d_Md_flushAll_40 (z_pc (pc' := 41) rfl ?_)
      refine z_iadd C d_Md_flushAll_41 (z_pc (pc' := 42) rfl ?_)
      obtain ⟨M53, h54, hf⟩ := zbind hf
      refine z_puti C fp_Md_122 (by decide) rfl h54 d_Md_flushAll_42 (z_pc (pc' := 45) rfl ?_)
      refine z_aload_n C d_Md_flushAll_45 rfl (z_pc (pc' := 46) rfl ?_)
      refine z_dupr C d_Md_flushAll_46 (z_pc (pc' := 47) rfl ?_)
      obtain ⟨x55, h56, hf⟩ := zbind hf
      refine z_geti C fl_Md_106 h56 d_Md_flushAll_47 (z_pc (pc' := 50) rfl ?_)
      refine z_iconst C d_Md_flushAll_50 (z_pc (pc' := 51) rfl ?_)
      refine z_iadd C d_Md_flushAll_51 (z_pc (pc' := 52) rfl ?_)
      obtain ⟨M57, h58, hf⟩ := zbind hf
      refine z_puti C fp_Md_106 (by decide) rfl h58 d_Md_flushAll_52 (z_pc (pc' := 55) rfl ?_)
      refine z_iconst C d_Md_flushAll_55 (z_pc (pc' := 56) rfl ?_)
      refine z_istore_n C d_Md_flushAll_56 (by decide) (z_pl (pc' := 57) (L' := [some (zv n0 a0), some (zi 0)]) rfl rfl ?_)
      refine z_sub2 (w_Md_flushAll_L57 C hr ?_ _ _ _ hf) (And.intro rfl (And.intro rfl trivial))
      intro M59 hf
      refine z_aload_n C d_Md_flushAll_99 rfl (z_pc (pc' := 100) rfl ?_)
      refine z_iconst C d_Md_flushAll_100 (z_pc (pc' := 101) rfl ?_)
      obtain ⟨M60, h61, hf⟩ := zbind hf
      refine z_puti C fp_Md_125 (by decide) rfl h61 d_Md_flushAll_101 (z_pc (pc' := 104) rfl ?_)
      exact z_vret C hr (Nat.le_of_ble_eq_true rfl) (Nat.le_of_ble_eq_true rfl) d_Md_flushAll_104 hf
  · have hf := zpos c4 hf
    exact z_vret C hr (Nat.le_of_ble_eq_true rfl) (Nat.le_of_ble_eq_true rfl) d_Md_flushAll_8 hf
theorem e_Md_needsHead {a0 : Nat} {a1 : Int} {M : zHp} {q : Int × zHp} (hf : f_Md_needsHead a0 a1 M = some q) : zk M a0 = 8 := by
  unfold f_Md_needsHead at hf
  exact (zif hf).1
set_option maxHeartbeats 4000000 in
set_option maxRecDepth 100000 in
theorem c_Md_needsHead (D : va_G) (n0 : Nat) (l : Launch) {a0 : Nat} {a1 : Int} {M : zHp} {r : Int} {M' : zHp} (hf : f_Md_needsHead a0 a1 M = some (r, M')) : zM D n0 l y_Md_needsHead b_Md_needsHead 2 (some .boolean) 0 0 0 0 [zv n0 a0, zi a1] M (some (zi r)) M' := by
  refine zM.ofZ (by decide) (zcr (zci zcn)) (Nat.le_of_ble_eq_true rfl) ?_
  intro p e s m below meth c C hr hnm
  have C : zC D n0 p s m meth c b_Md_needsHead 2 "LayerVaultModel" := C
  refine z_eqL (L' := [some (zv n0 a0), some (zi a1)]) rfl ?_
  unfold f_Md_needsHead at hf
  have hf := (zif hf).2
  refine z_aload_n C d_Md_needsHead_0 rfl (z_pc (pc' := 1) rfl ?_)
  obtain ⟨x1, h2, hf⟩ := zbind hf
  refine z_getr C fl_Md_59 rfl h2 d_Md_needsHead_1 (z_pc (pc' := 4) rfl ?_)
  refine z_aload_n C d_Md_needsHead_4 rfl (z_pc (pc' := 5) rfl ?_)
  obtain ⟨x3, h4, hf⟩ := zbind hf
  refine z_geti C fl_Md_128 h4 d_Md_needsHead_5 (z_pc (pc' := 8) rfl ?_)
  refine z_bipush C d_Md_needsHead_8 (by decide) (z_pc (pc' := 10) rfl ?_)
  refine z_irem C (by decide) d_Md_needsHead_10 (z_pc (pc' := 11) rfl ?_)
  obtain ⟨x5, h6, hf⟩ := zbind hf
  refine z_iald C h6 d_Md_needsHead_11 (z_pc (pc' := 12) rfl ?_)
  refine z_iconst C d_Md_needsHead_12 (z_pc (pc' := 13) rfl ?_)
  refine z_iadd C d_Md_needsHead_13 (z_pc (pc' := 14) rfl ?_)
  refine z_iload_n C d_Md_needsHead_14 rfl (z_pc (pc' := 15) rfl ?_)
  refine z_iadd C d_Md_needsHead_15 (z_pc (pc' := 16) rfl ?_)
  refine z_bipush C d_Md_needsHead_16 (by decide) (z_pc (pc' := 18) rfl ?_)
  refine z_icmp_le (tgt := 25) C d_Md_needsHead_18 (by decide) (fun c7 => ?_) (fun c7 => z_pc (pc' := 21) rfl ?_)
  · have hf := zpos c7 hf
    refine z_iconst C d_Md_needsHead_25 (z_pc (pc' := 26) rfl ?_)
    exact z_zret C hr rfl (Nat.le_of_ble_eq_true rfl) (Nat.le_of_ble_eq_true rfl) d_Md_needsHead_26 hf
  · have hf := zneg c7 hf
    refine z_iconst C d_Md_needsHead_21 (z_pc (pc' := 22) rfl ?_)
    refine z_goto (tgt := 26) C d_Md_needsHead_22 (by decide) ?_
    exact z_zret C hr rfl (Nat.le_of_ble_eq_true rfl) (Nat.le_of_ble_eq_true rfl) d_Md_needsHead_26 hf
theorem e_Md_record {a0 : Nat} {a1 : Int} {M : zHp} {q : Int × zHp} (hf : f_Md_record a0 a1 M = some q) : zk M a0 = 8 := by
  unfold f_Md_record at hf
  exact (zif hf).1
set_option maxHeartbeats 4000000 in
set_option maxRecDepth 100000 in
theorem c_Md_record (D : va_G) (n0 : Nat) (l : Launch) {a0 : Nat} {a1 : Int} {M : zHp} {r : Int} {M' : zHp} (hf : f_Md_record a0 a1 M = some (r, M')) : zM D n0 l y_Md_record b_Md_record 3 (some .int) 1 21 0 0 [zv n0 a0, zi a1] M (some (zi r)) M' := by
  refine zM.ofZ (by decide) (zcr (zci zcn)) (Nat.le_of_ble_eq_true rfl) ?_
  intro p e s m below meth c C hr hnm
  have C : zC D n0 p s m meth c b_Md_record 3 "LayerVaultModel" := C
  refine z_eqL (L' := [some (zv n0 a0), some (zi a1), none]) rfl ?_
  unfold f_Md_record at hf
  have hf := (zif hf).2
  refine z_aload_n C d_Md_record_0 rfl (z_pc (pc' := 1) rfl ?_)
  refine z_iload_n C d_Md_record_1 rfl (z_pc (pc' := 2) rfl ?_)
  obtain ⟨x3, M2, h1, hf⟩ := zb2_inv hf
  refine z_callV C [zi a1] [] kv_Md_131 (c_Md_needsHead D n0 l h1) (e_Md_needsHead h1) ⟨(Nat.le_of_ble_eq_true rfl), (Nat.le_of_ble_eq_true rfl)⟩ (Nat.le_of_ble_eq_true rfl) ⟨(Nat.le_of_ble_eq_true rfl), (Nat.le_of_ble_eq_true rfl)⟩ d_Md_record_2 (z_pc (pc' := 5) rfl ?_)
  refine z_if_eq (tgt := 31) C d_Md_record_5 (by decide) (fun c4 => ?_) (fun c4 => z_pc (pc' := 8) rfl ?_)
  · have hf := zpos c4 hf
    refine z_aload_n C d_Md_record_31 rfl (z_pc (pc' := 32) rfl ?_)
    obtain ⟨x5, h6, hf⟩ := zbind hf
    refine z_getr C fl_Md_59 rfl h6 d_Md_record_32 (z_pc (pc' := 35) rfl ?_)
    refine z_aload_n C d_Md_record_35 rfl (z_pc (pc' := 36) rfl ?_)
    obtain ⟨x7, h8, hf⟩ := zbind hf
    refine z_geti C fl_Md_128 h8 d_Md_record_36 (z_pc (pc' := 39) rfl ?_)
    refine z_bipush C d_Md_record_39 (by decide) (z_pc (pc' := 41) rfl ?_)
    refine z_irem C (by decide) d_Md_record_41 (z_pc (pc' := 42) rfl ?_)
    obtain ⟨x9, h10, hf⟩ := zbind hf
    refine z_iald C h10 d_Md_record_42 (z_pc (pc' := 43) rfl ?_)
    refine z_iconst C d_Md_record_43 (z_pc (pc' := 44) rfl ?_)
    refine z_iadd C d_Md_record_44 (z_pc (pc' := 45) rfl ?_)
    refine z_istore_n C d_Md_record_45 (by decide) (z_pl (pc' := 46) (L' := [some (zv n0 a0), some (zi a1), some (zi (zadd x9 1))]) rfl rfl ?_)
    refine z_aload_n C d_Md_record_46 rfl (z_pc (pc' := 47) rfl ?_)
    obtain ⟨x11, h12, hf⟩ := zbind hf
    refine z_getr C fl_Md_59 rfl h12 d_Md_record_47 (z_pc (pc' := 50) rfl ?_)
    refine z_aload_n C d_Md_record_50 rfl (z_pc (pc' := 51) rfl ?_)
    obtain ⟨x13, h14, hf⟩ := zbind hf
    refine z_geti C fl_Md_128 h14 d_Md_record_51 (z_pc (pc' := 54) rfl ?_)
    refine z_bipush C d_Md_record_54 (by decide) (z_pc (pc' := 56) rfl ?_)
    refine z_irem C (by decide) d_Md_record_56 (z_pc (pc' := 57) rfl ?_)
    refine z_iload_n C d_Md_record_57 rfl (z_pc (pc' := 58) rfl ?_)
    refine z_iload_n C d_Md_record_58 rfl (z_pc (pc' := 59) rfl ?_)
    refine z_iadd C d_Md_record_59 (z_pc (pc' := 60) rfl ?_)
    obtain ⟨M15, h16, hf⟩ := zbind hf
    refine z_iast C h16 d_Md_record_60 (z_pc (pc' := 61) rfl ?_)
    refine z_iload_n C d_Md_record_61 rfl (z_pc (pc' := 62) rfl ?_)
    exact z_iret C hr (Nat.le_of_ble_eq_true rfl) (Nat.le_of_ble_eq_true rfl) d_Md_record_62 hf
  · have hf := zneg c4 hf
    refine z_aload_n C d_Md_record_8 rfl (z_pc (pc' := 9) rfl ?_)
    refine z_dupr C d_Md_record_9 (z_pc (pc' := 10) rfl ?_)
    obtain ⟨x17, h18, hf⟩ := zbind hf
    refine z_geti C fl_Md_128 h18 d_Md_record_10 (z_pc (pc' := 13) rfl ?_)
    refine z_iconst C d_Md_record_13 (z_pc (pc' := 14) rfl ?_)
    refine z_iadd C d_Md_record_14 (z_pc (pc' := 15) rfl ?_)
    obtain ⟨M19, h20, hf⟩ := zbind hf
    refine z_puti C fp_Md_128 (by decide) rfl h20 d_Md_record_15 (z_pc (pc' := 18) rfl ?_)
    refine z_aload_n C d_Md_record_18 rfl (z_pc (pc' := 19) rfl ?_)
    obtain ⟨x21, h22, hf⟩ := zbind hf
    refine z_getr C fl_Md_59 rfl h22 d_Md_record_19 (z_pc (pc' := 22) rfl ?_)
    refine z_aload_n C d_Md_record_22 rfl (z_pc (pc' := 23) rfl ?_)
    obtain ⟨x23, h24, hf⟩ := zbind hf
    refine z_geti C fl_Md_128 h24 d_Md_record_23 (z_pc (pc' := 26) rfl ?_)
    refine z_bipush C d_Md_record_26 (by decide) (z_pc (pc' := 28) rfl ?_)
    refine z_irem C (by decide) d_Md_record_28 (z_pc (pc' := 29) rfl ?_)
    refine z_iconst C d_Md_record_29 (z_pc (pc' := 30) rfl ?_)
    obtain ⟨M25, h26, hf⟩ := zbind hf
    refine z_iast C h26 d_Md_record_30 (z_pc (pc' := 31) rfl ?_)
    refine z_aload_n C d_Md_record_31 rfl (z_pc (pc' := 32) rfl ?_)
    obtain ⟨x27, h28, hf⟩ := zbind hf
    refine z_getr C fl_Md_59 rfl h28 d_Md_record_32 (z_pc (pc' := 35) rfl ?_)
    refine z_aload_n C d_Md_record_35 rfl (z_pc (pc' := 36) rfl ?_)
    obtain ⟨x29, h30, hf⟩ := zbind hf
    refine z_geti C fl_Md_128 h30 d_Md_record_36 (z_pc (pc' := 39) rfl ?_)
    refine z_bipush C d_Md_record_39 (by decide) (z_pc (pc' := 41) rfl ?_)
    refine z_irem C (by decide) d_Md_record_41 (z_pc (pc' := 42) rfl ?_)
    obtain ⟨x31, h32, hf⟩ := zbind hf
    refine z_iald C h32 d_Md_record_42 (z_pc (pc' := 43) rfl ?_)
    refine z_iconst C d_Md_record_43 (z_pc (pc' := 44) rfl ?_)
    refine z_iadd C d_Md_record_44 (z_pc (pc' := 45) rfl ?_)
    refine z_istore_n C d_Md_record_45 (by decide) (z_pl (pc' := 46) (L' := [some (zv n0 a0), some (zi a1), some (zi (zadd x31 1))]) rfl rfl ?_)
    refine z_aload_n C d_Md_record_46 rfl (z_pc (pc' := 47) rfl ?_)
    obtain ⟨x33, h34, hf⟩ := zbind hf
    refine z_getr C fl_Md_59 rfl h34 d_Md_record_47 (z_pc (pc' := 50) rfl ?_)
    refine z_aload_n C d_Md_record_50 rfl (z_pc (pc' := 51) rfl ?_)
    obtain ⟨x35, h36, hf⟩ := zbind hf
    refine z_geti C fl_Md_128 h36 d_Md_record_51 (z_pc (pc' := 54) rfl ?_)
    refine z_bipush C d_Md_record_54 (by decide) (z_pc (pc' := 56) rfl ?_)
    refine z_irem C (by decide) d_Md_record_56 (z_pc (pc' := 57) rfl ?_)
    refine z_iload_n C d_Md_record_57 rfl (z_pc (pc' := 58) rfl ?_)
    refine z_iload_n C d_Md_record_58 rfl (z_pc (pc' := 59) rfl ?_)
    refine z_iadd C d_Md_record_59 (z_pc (pc' := 60) rfl ?_)
    obtain ⟨M37, h38, hf⟩ := zbind hf
    refine z_iast C h38 d_Md_record_60 (z_pc (pc' := 61) rfl ?_)
    refine z_iload_n C d_Md_record_61 rfl (z_pc (pc' := 62) rfl ?_)
    exact z_iret C hr (Nat.le_of_ble_eq_true rfl) (Nat.le_of_ble_eq_true rfl) d_Md_record_62 hf
set_option maxHeartbeats 4000000 in
set_option maxRecDepth 100000 in
theorem c_Md_isKey (D : va_G) (n0 : Nat) (l : Launch) {a0 : Int} {M : zHp} {r : Int} {M' : zHp} (hf : f_Md_isKey a0 M = some (r, M')) : zM D n0 l y_Md_isKey b_Md_isKey 1 (some .boolean) 0 0 0 0 [zi a0] M (some (zi r)) M' := by
  refine zM.ofZ (by decide) (zci zcn) (Nat.le_of_ble_eq_true rfl) ?_
  intro p e s m below meth c C hr hnm
  have C : zC D n0 p s m meth c b_Md_isKey 1 "LayerVaultModel" := C
  refine z_eqL (L' := [some (zi a0)]) rfl ?_
  unfold f_Md_isKey at hf
  refine z_iload_n C d_Md_isKey_0 rfl (z_pc (pc' := 1) rfl ?_)
  refine z_if_lt (tgt := 14) C d_Md_isKey_1 (by decide) (fun c1 => ?_) (fun c1 => z_pc (pc' := 4) rfl ?_)
  · have hf := zpos c1 hf
    refine z_iconst C d_Md_isKey_14 (z_pc (pc' := 15) rfl ?_)
    exact z_zret C hr rfl (Nat.le_of_ble_eq_true rfl) (Nat.le_of_ble_eq_true rfl) d_Md_isKey_15 hf
  · have hf := zneg c1 hf
    refine z_iload_n C d_Md_isKey_4 rfl (z_pc (pc' := 5) rfl ?_)
    refine z_bipush C d_Md_isKey_5 (by decide) (z_pc (pc' := 7) rfl ?_)
    refine z_icmp_ge (tgt := 14) C d_Md_isKey_7 (by decide) (fun c2 => ?_) (fun c2 => z_pc (pc' := 10) rfl ?_)
    · have hf := zpos c2 hf
      refine z_iconst C d_Md_isKey_14 (z_pc (pc' := 15) rfl ?_)
      exact z_zret C hr rfl (Nat.le_of_ble_eq_true rfl) (Nat.le_of_ble_eq_true rfl) d_Md_isKey_15 hf
    · have hf := zneg c2 hf
      refine z_iconst C d_Md_isKey_10 (z_pc (pc' := 11) rfl ?_)
      refine z_goto (tgt := 15) C d_Md_isKey_11 (by decide) ?_
      exact z_zret C hr rfl (Nat.le_of_ble_eq_true rfl) (Nat.le_of_ble_eq_true rfl) d_Md_isKey_15 hf
theorem e_Md_add {a0 : Nat} {a1 : Int} {a2 : Int} {a3 : Int} {M : zHp} {q : Int × zHp} (hf : f_Md_add a0 a1 a2 a3 M = some q) : zk M a0 = 8 := by
  unfold f_Md_add at hf
  exact (zif hf).1
set_option maxHeartbeats 4000000 in
set_option maxRecDepth 100000 in
theorem c_Md_add (D : va_G) (n0 : Nat) (l : Launch) {a0 : Nat} {a1 : Int} {a2 : Int} {a3 : Int} {M : zHp} {r : Int} {M' : zHp} (hf : f_Md_add a0 a1 a2 a3 M = some (r, M')) : zM D n0 l y_Md_add b_Md_add 4 (some .int) 0 0 0 0 [zv n0 a0, zi a1, zi a2, zi a3] M (some (zi r)) M' := by
  refine zM.ofZ (by decide) (zcr (zci (zci (zci zcn)))) (Nat.le_of_ble_eq_true rfl) ?_
  intro p e s m below meth c C hr hnm
  have C : zC D n0 p s m meth c b_Md_add 4 "LayerVaultModel" := C
  refine z_eqL (L' := [some (zv n0 a0), some (zi a1), some (zi a2), some (zi a3)]) rfl ?_
  unfold f_Md_add at hf
  have hf := (zif hf).2
  refine z_aload_n C d_Md_add_0 rfl (z_pc (pc' := 1) rfl ?_)
  obtain ⟨x1, h2, hf⟩ := zbind hf
  refine z_geti C fl_Md_134 h2 d_Md_add_1 (z_pc (pc' := 4) rfl ?_)
  refine z_bipush C d_Md_add_4 (by decide) (z_pc (pc' := 6) rfl ?_)
  refine z_icmp_ne (tgt := 12) C d_Md_add_6 (by decide) (fun c3 => ?_) (fun c3 => z_pc (pc' := 9) rfl ?_)
  · have hf := zneg c3 hf
    refine z_aload_n C d_Md_add_12 rfl (z_pc (pc' := 13) rfl ?_)
    obtain ⟨x4, h5, hf⟩ := zbind hf
    refine z_getr C fl_Md_44 rfl h5 d_Md_add_13 (z_pc (pc' := 16) rfl ?_)
    refine z_aload_n C d_Md_add_16 rfl (z_pc (pc' := 17) rfl ?_)
    obtain ⟨x6, h7, hf⟩ := zbind hf
    refine z_geti C fl_Md_134 h7 d_Md_add_17 (z_pc (pc' := 20) rfl ?_)
    refine z_iload_n C d_Md_add_20 rfl (z_pc (pc' := 21) rfl ?_)
    obtain ⟨M8, h9, hf⟩ := zbind hf
    refine z_iast C h9 d_Md_add_21 (z_pc (pc' := 22) rfl ?_)
    refine z_aload_n C d_Md_add_22 rfl (z_pc (pc' := 23) rfl ?_)
    obtain ⟨x10, h11, hf⟩ := zbind hf
    refine z_getr C fl_Md_47 rfl h11 d_Md_add_23 (z_pc (pc' := 26) rfl ?_)
    refine z_aload_n C d_Md_add_26 rfl (z_pc (pc' := 27) rfl ?_)
    obtain ⟨x12, h13, hf⟩ := zbind hf
    refine z_geti C fl_Md_134 h13 d_Md_add_27 (z_pc (pc' := 30) rfl ?_)
    refine z_iload_n C d_Md_add_30 rfl (z_pc (pc' := 31) rfl ?_)
    obtain ⟨M14, h15, hf⟩ := zbind hf
    refine z_iast C h15 d_Md_add_31 (z_pc (pc' := 32) rfl ?_)
    refine z_aload_n C d_Md_add_32 rfl (z_pc (pc' := 33) rfl ?_)
    obtain ⟨x16, h17, hf⟩ := zbind hf
    refine z_getr C fl_Md_50 rfl h17 d_Md_add_33 (z_pc (pc' := 36) rfl ?_)
    refine z_aload_n C d_Md_add_36 rfl (z_pc (pc' := 37) rfl ?_)
    obtain ⟨x18, h19, hf⟩ := zbind hf
    refine z_geti C fl_Md_134 h19 d_Md_add_37 (z_pc (pc' := 40) rfl ?_)
    refine z_iload_n C d_Md_add_40 rfl (z_pc (pc' := 41) rfl ?_)
    obtain ⟨M20, h21, hf⟩ := zbind hf
    refine z_iast C h21 d_Md_add_41 (z_pc (pc' := 42) rfl ?_)
    refine z_aload_n C d_Md_add_42 rfl (z_pc (pc' := 43) rfl ?_)
    refine z_dupr C d_Md_add_43 (z_pc (pc' := 44) rfl ?_)
    obtain ⟨x22, h23, hf⟩ := zbind hf
    refine z_geti C fl_Md_134 h23 d_Md_add_44 (z_pc (pc' := 47) rfl ?_)
    refine z_iconst C d_Md_add_47 (z_pc (pc' := 48) rfl ?_)
    refine z_iadd C d_Md_add_48 (z_pc (pc' := 49) rfl ?_)
    obtain ⟨M24, h25, hf⟩ := zbind hf
    refine z_puti C fp_Md_134 (by decide) rfl h25 d_Md_add_49 (z_pc (pc' := 52) rfl ?_)
    refine z_aload_n C d_Md_add_52 rfl (z_pc (pc' := 53) rfl ?_)
    obtain ⟨x26, h27, hf⟩ := zbind hf
    refine z_geti C fl_Md_134 h27 d_Md_add_53 (z_pc (pc' := 56) rfl ?_)
    exact z_iret C hr (Nat.le_of_ble_eq_true rfl) (Nat.le_of_ble_eq_true rfl) d_Md_add_56 hf
  · have hf := zpos c3 hf
    refine z_bipush C d_Md_add_9 (by decide) (z_pc (pc' := 11) rfl ?_)
    exact z_iret C hr (Nat.le_of_ble_eq_true rfl) (Nat.le_of_ble_eq_true rfl) d_Md_add_11 hf
theorem e_Md_put {a0 : Nat} {a1 : Int} {a2 : Int} {a3 : Int} {M : zHp} {q : Int × zHp} (hf : f_Md_put a0 a1 a2 a3 M = some q) : zk M a0 = 8 := by
  unfold f_Md_put at hf
  exact (zif hf).1
set_option maxHeartbeats 4000000 in
set_option maxRecDepth 100000 in
theorem c_Md_put (D : va_G) (n0 : Nat) (l : Launch) {a0 : Nat} {a1 : Int} {a2 : Int} {a3 : Int} {M : zHp} {r : Int} {M' : zHp} (hf : f_Md_put a0 a1 a2 a3 M = some (r, M')) : zM D n0 l y_Md_put b_Md_put 4 (some .int) 1 23 0 0 [zv n0 a0, zi a1, zi a2, zi a3] M (some (zi r)) M' := by
  refine zM.ofZ (by decide) (zcr (zci (zci (zci zcn)))) (Nat.le_of_ble_eq_true rfl) ?_
  intro p e s m below meth c C hr hnm
  have C : zC D n0 p s m meth c b_Md_put 4 "LayerVaultModel" := C
  refine z_eqL (L' := [some (zv n0 a0), some (zi a1), some (zi a2), some (zi a3)]) rfl ?_
  unfold f_Md_put at hf
  have hf := (zif hf).2
  refine z_iload_n C d_Md_put_0 rfl (z_pc (pc' := 1) rfl ?_)
  obtain ⟨x3, M2, h1, hf⟩ := zb2_inv hf
  refine z_callS C [zi a1] [] ks_Md_137 (c_Md_isKey D n0 l h1) ⟨(Nat.le_of_ble_eq_true rfl), (Nat.le_of_ble_eq_true rfl)⟩ (Nat.le_of_ble_eq_true rfl) ⟨(Nat.le_of_ble_eq_true rfl), (Nat.le_of_ble_eq_true rfl)⟩ d_Md_put_1 (z_pc (pc' := 4) rfl ?_)
  refine z_if_eq (tgt := 18) C d_Md_put_4 (by decide) (fun c4 => ?_) (fun c4 => z_pc (pc' := 7) rfl ?_)
  · have hf := zpos c4 hf
    refine z_iconst C d_Md_put_18 (z_pc (pc' := 19) rfl ?_)
    refine z_goto (tgt := 29) C d_Md_put_19 (by decide) ?_
    exact z_iret C hr (Nat.le_of_ble_eq_true rfl) (Nat.le_of_ble_eq_true rfl) d_Md_put_29 hf
  · have hf := zneg c4 hf
    refine z_iload_n C d_Md_put_7 rfl (z_pc (pc' := 8) rfl ?_)
    refine z_if_lt (tgt := 18) C d_Md_put_8 (by decide) (fun c5 => ?_) (fun c5 => z_pc (pc' := 11) rfl ?_)
    · have hf := zpos c5 hf
      refine z_iconst C d_Md_put_18 (z_pc (pc' := 19) rfl ?_)
      refine z_goto (tgt := 29) C d_Md_put_19 (by decide) ?_
      exact z_iret C hr (Nat.le_of_ble_eq_true rfl) (Nat.le_of_ble_eq_true rfl) d_Md_put_29 hf
    · have hf := zneg c5 hf
      refine z_iload_n C d_Md_put_11 rfl (z_pc (pc' := 12) rfl ?_)
      refine z_sipush C d_Md_put_12 (by decide) (z_pc (pc' := 15) rfl ?_)
      refine z_icmp_le (tgt := 22) C d_Md_put_15 (by decide) (fun c6 => ?_) (fun c6 => z_pc (pc' := 18) rfl ?_)
      · have hf := zpos c6 hf
        refine z_aload_n C d_Md_put_22 rfl (z_pc (pc' := 23) rfl ?_)
        refine z_iload_n C d_Md_put_23 rfl (z_pc (pc' := 24) rfl ?_)
        refine z_iload_n C d_Md_put_24 rfl (z_pc (pc' := 25) rfl ?_)
        refine z_iload_n C d_Md_put_25 rfl (z_pc (pc' := 26) rfl ?_)
        obtain ⟨x9, M8, h7, hf⟩ := zb2_inv hf
        refine z_callV C [zi a1, zi a2, zi a3] [] kv_Md_140 (c_Md_add D n0 l h7) (e_Md_add h7) ⟨(Nat.le_of_ble_eq_true rfl), (Nat.le_of_ble_eq_true rfl)⟩ (Nat.le_of_ble_eq_true rfl) ⟨(Nat.le_of_ble_eq_true rfl), (Nat.le_of_ble_eq_true rfl)⟩ d_Md_put_26 (z_pc (pc' := 29) rfl ?_)
        exact z_iret C hr (Nat.le_of_ble_eq_true rfl) (Nat.le_of_ble_eq_true rfl) d_Md_put_29 hf
      · have hf := zneg c6 hf
        refine z_iconst C d_Md_put_18 (z_pc (pc' := 19) rfl ?_)
        refine z_goto (tgt := 29) C d_Md_put_19 (by decide) ?_
        exact z_iret C hr (Nat.le_of_ble_eq_true rfl) (Nat.le_of_ble_eq_true rfl) d_Md_put_29 hf
theorem e_Md_delete {a0 : Nat} {a1 : Int} {M : zHp} {q : Int × zHp} (hf : f_Md_delete a0 a1 M = some q) : zk M a0 = 8 := by
  unfold f_Md_delete at hf
  exact (zif hf).1
set_option maxHeartbeats 4000000 in
set_option maxRecDepth 100000 in
theorem c_Md_delete (D : va_G) (n0 : Nat) (l : Launch) {a0 : Nat} {a1 : Int} {M : zHp} {r : Int} {M' : zHp} (hf : f_Md_delete a0 a1 M = some (r, M')) : zM D n0 l y_Md_delete b_Md_delete 2 (some .int) 1 23 0 0 [zv n0 a0, zi a1] M (some (zi r)) M' := by
  refine zM.ofZ (by decide) (zcr (zci zcn)) (Nat.le_of_ble_eq_true rfl) ?_
  intro p e s m below meth c C hr hnm
  have C : zC D n0 p s m meth c b_Md_delete 2 "LayerVaultModel" := C
  refine z_eqL (L' := [some (zv n0 a0), some (zi a1)]) rfl ?_
  unfold f_Md_delete at hf
  have hf := (zif hf).2
  refine z_iload_n C d_Md_delete_0 rfl (z_pc (pc' := 1) rfl ?_)
  obtain ⟨x3, M2, h1, hf⟩ := zb2_inv hf
  refine z_callS C [zi a1] [] ks_Md_137 (c_Md_isKey D n0 l h1) ⟨(Nat.le_of_ble_eq_true rfl), (Nat.le_of_ble_eq_true rfl)⟩ (Nat.le_of_ble_eq_true rfl) ⟨(Nat.le_of_ble_eq_true rfl), (Nat.le_of_ble_eq_true rfl)⟩ d_Md_delete_1 (z_pc (pc' := 4) rfl ?_)
  refine z_if_eq (tgt := 17) C d_Md_delete_4 (by decide) (fun c4 => ?_) (fun c4 => z_pc (pc' := 7) rfl ?_)
  · have hf := zpos c4 hf
    refine z_iconst C d_Md_delete_17 (z_pc (pc' := 18) rfl ?_)
    exact z_iret C hr (Nat.le_of_ble_eq_true rfl) (Nat.le_of_ble_eq_true rfl) d_Md_delete_18 hf
  · have hf := zneg c4 hf
    refine z_aload_n C d_Md_delete_7 rfl (z_pc (pc' := 8) rfl ?_)
    refine z_iload_n C d_Md_delete_8 rfl (z_pc (pc' := 9) rfl ?_)
    refine z_iconst C d_Md_delete_9 (z_pc (pc' := 10) rfl ?_)
    refine z_iconst C d_Md_delete_10 (z_pc (pc' := 11) rfl ?_)
    obtain ⟨x7, M6, h5, hf⟩ := zb2_inv hf
    refine z_callV C [zi a1, zi 0, zi (-1)] [] kv_Md_140 (c_Md_add D n0 l h5) (e_Md_add h5) ⟨(Nat.le_of_ble_eq_true rfl), (Nat.le_of_ble_eq_true rfl)⟩ (Nat.le_of_ble_eq_true rfl) ⟨(Nat.le_of_ble_eq_true rfl), (Nat.le_of_ble_eq_true rfl)⟩ d_Md_delete_11 (z_pc (pc' := 14) rfl ?_)
    refine z_goto (tgt := 18) C d_Md_delete_14 (by decide) ?_
    exact z_iret C hr (Nat.le_of_ble_eq_true rfl) (Nat.le_of_ble_eq_true rfl) d_Md_delete_18 hf
set_option maxHeartbeats 4000000 in
set_option maxRecDepth 100000 in
theorem w_Md_commit_L127 {D : va_G} {n0 : Nat} {l : Launch} {p : Program} {e : Env} {s : State} {m : MethodId} {args : Array Value} {below : List Frame} {meth : Method} {c : Code} {a0 : Nat} {a1 : Int} {r : Int} {M' : zHp} {κ : zHp → Option (Int × zHp)} (C : zC D n0 p s m meth c b_Md_commit 4 "LayerVaultModel") (hr : meth.sig.returnType = (some .int))
    (hκ : ∀ (M1 : zHp), κ M1 = some (r, M') → zZ D n0 p l e { frames := 5, cells := 0, slots := 0, locals := 110 } s m args below meth c 4 0 0 (MQ below (zQc D n0 (some (zi r)) M') args s 0 0 (fun q => n0 ≤ q)) 276 [some (zv n0 a0), none, none, none] [] M1) :
    ∀ (n : Nat) (v2 : Int) (M : zHp), f_Md_commit_L127 κ a0 a1 n v2 M = some (r, M') → zZ D n0 p l e { frames := 5, cells := 0, slots := 0, locals := 110 } s m args below meth c 4 0 0 (MQ below (zQc D n0 (some (zi r)) M') args s 0 0 (fun q => n0 ≤ q)) 127 [some (zv n0 a0), some (zi a1), some (zi v2), none] [] M := by
  intro n
  induction n with
  | zero =>
    intro v2 M hf
    exact absurd hf (by unfold f_Md_commit_L127; simp)
  | succ n ih =>
    intro v2 M hf
    unfold f_Md_commit_L127 at hf
    refine z_iload_n C d_Md_commit_127 rfl (z_pc (pc' := 128) rfl ?_)
    refine z_aload_n C d_Md_commit_128 rfl (z_pc (pc' := 129) rfl ?_)
    obtain ⟨x52, h53, hf⟩ := zbind hf
    refine z_geti C fl_Md_134 h53 d_Md_commit_129 (z_pc (pc' := 132) rfl ?_)
    refine z_icmp_ge (tgt := 276) C d_Md_commit_132 (by decide) (fun c54 => ?_) (fun c54 => z_pc (pc' := 135) rfl ?_)
    · have hf := zpos c54 hf
      exact z_sub2 (hκ _ hf) (And.intro rfl trivial)
    · have hf := zneg c54 hf
      refine z_aload_n C d_Md_commit_135 rfl (z_pc (pc' := 136) rfl ?_)
      refine z_dupr C d_Md_commit_136 (z_pc (pc' := 137) rfl ?_)
      obtain ⟨x55, h56, hf⟩ := zbind hf
      refine z_geti C fl_Md_89 h56 d_Md_commit_137 (z_pc (pc' := 140) rfl ?_)
      refine z_iconst C d_Md_commit_140 (z_pc (pc' := 141) rfl ?_)
      refine z_iadd C d_Md_commit_141 (z_pc (pc' := 142) rfl ?_)
      obtain ⟨M57, h58, hf⟩ := zbind hf
      refine z_puti C fp_Md_89 (by decide) rfl h58 d_Md_commit_142 (z_pc (pc' := 145) rfl ?_)
      refine z_aload_n C d_Md_commit_145 rfl (z_pc (pc' := 146) rfl ?_)
      obtain ⟨x59, h60, hf⟩ := zbind hf
      refine z_geti C fl_Md_75 h60 d_Md_commit_146 (z_pc (pc' := 149) rfl ?_)
      refine z_istore_n C d_Md_commit_149 (by decide) (z_pl (pc' := 150) (L' := [some (zv n0 a0), some (zi a1), some (zi v2), some (zi x59)]) rfl rfl ?_)
      refine z_aload_n C d_Md_commit_150 rfl (z_pc (pc' := 151) rfl ?_)
      refine z_dupr C d_Md_commit_151 (z_pc (pc' := 152) rfl ?_)
      obtain ⟨x61, h62, hf⟩ := zbind hf
      refine z_geti C fl_Md_75 h62 d_Md_commit_152 (z_pc (pc' := 155) rfl ?_)
      refine z_iconst C d_Md_commit_155 (z_pc (pc' := 156) rfl ?_)
      refine z_iadd C d_Md_commit_156 (z_pc (pc' := 157) rfl ?_)
      obtain ⟨M63, h64, hf⟩ := zbind hf
      refine z_puti C fp_Md_75 (by decide) rfl h64 d_Md_commit_157 (z_pc (pc' := 160) rfl ?_)
      refine z_aload_n C d_Md_commit_160 rfl (z_pc (pc' := 161) rfl ?_)
      obtain ⟨x65, h66, hf⟩ := zbind hf
      refine z_getr C fl_Md_7 rfl h66 d_Md_commit_161 (z_pc (pc' := 164) rfl ?_)
      refine z_iload_n C d_Md_commit_164 rfl (z_pc (pc' := 165) rfl ?_)
      refine z_aload_n C d_Md_commit_165 rfl (z_pc (pc' := 166) rfl ?_)
      obtain ⟨x67, h68, hf⟩ := zbind hf
      refine z_getr C fl_Md_44 rfl h68 d_Md_commit_166 (z_pc (pc' := 169) rfl ?_)
      refine z_iload_n C d_Md_commit_169 rfl (z_pc (pc' := 170) rfl ?_)
      obtain ⟨x69, h70, hf⟩ := zbind hf
      refine z_iald C h70 d_Md_commit_170 (z_pc (pc' := 171) rfl ?_)
      obtain ⟨M71, h72, hf⟩ := zbind hf
      refine z_iast C h72 d_Md_commit_171 (z_pc (pc' := 172) rfl ?_)
      refine z_aload_n C d_Md_commit_172 rfl (z_pc (pc' := 173) rfl ?_)
      obtain ⟨x73, h74, hf⟩ := zbind hf
      refine z_getr C fl_Md_13 rfl h74 d_Md_commit_173 (z_pc (pc' := 176) rfl ?_)
      refine z_iload_n C d_Md_commit_176 rfl (z_pc (pc' := 177) rfl ?_)
      refine z_aload_n C d_Md_commit_177 rfl (z_pc (pc' := 178) rfl ?_)
      obtain ⟨x75, h76, hf⟩ := zbind hf
      refine z_geti C fl_Md_89 h76 d_Md_commit_178 (z_pc (pc' := 181) rfl ?_)
      obtain ⟨M77, h78, hf⟩ := zbind hf
      refine z_iast C h78 d_Md_commit_181 (z_pc (pc' := 182) rfl ?_)
      refine z_aload_n C d_Md_commit_182 rfl (z_pc (pc' := 183) rfl ?_)
      obtain ⟨x79, h80, hf⟩ := zbind hf
      refine z_getr C fl_Md_19 rfl h80 d_Md_commit_183 (z_pc (pc' := 186) rfl ?_)
      refine z_iload_n C d_Md_commit_186 rfl (z_pc (pc' := 187) rfl ?_)
      refine z_aload_n C d_Md_commit_187 rfl (z_pc (pc' := 188) rfl ?_)
      obtain ⟨x81, h82, hf⟩ := zbind hf
      refine z_getr C fl_Md_50 rfl h82 d_Md_commit_188 (z_pc (pc' := 191) rfl ?_)
      refine z_iload_n C d_Md_commit_191 rfl (z_pc (pc' := 192) rfl ?_)
      obtain ⟨x83, h84, hf⟩ := zbind hf
      refine z_iald C h84 d_Md_commit_192 (z_pc (pc' := 193) rfl ?_)
      refine z_if_ge (tgt := 200) C d_Md_commit_193 (by decide) (fun c85 => ?_) (fun c85 => z_pc (pc' := 196) rfl ?_)
      · have hf := zpos c85 hf
        refine z_iconst C d_Md_commit_200 (z_pc (pc' := 201) rfl ?_)
        obtain ⟨M86, h87, hf⟩ := zbind hf
        refine z_bast C h87 d_Md_commit_201 (z_pc (pc' := 202) rfl ?_)
        refine z_aload_n C d_Md_commit_202 rfl (z_pc (pc' := 203) rfl ?_)
        obtain ⟨x88, h89, hf⟩ := zbind hf
        refine z_getr C fl_Md_16 rfl h89 d_Md_commit_203 (z_pc (pc' := 206) rfl ?_)
        refine z_iload_n C d_Md_commit_206 rfl (z_pc (pc' := 207) rfl ?_)
        refine z_aload_n C d_Md_commit_207 rfl (z_pc (pc' := 208) rfl ?_)
        obtain ⟨x90, h91, hf⟩ := zbind hf
        refine z_getr C fl_Md_47 rfl h91 d_Md_commit_208 (z_pc (pc' := 211) rfl ?_)
        refine z_iload_n C d_Md_commit_211 rfl (z_pc (pc' := 212) rfl ?_)
        obtain ⟨x92, h93, hf⟩ := zbind hf
        refine z_iald C h93 d_Md_commit_212 (z_pc (pc' := 213) rfl ?_)
        obtain ⟨M94, h95, hf⟩ := zbind hf
        refine z_iast C h95 d_Md_commit_213 (z_pc (pc' := 214) rfl ?_)
        refine z_aload_n C d_Md_commit_214 rfl (z_pc (pc' := 215) rfl ?_)
        obtain ⟨x96, h97, hf⟩ := zbind hf
        refine z_getr C fl_Md_23 rfl h97 d_Md_commit_215 (z_pc (pc' := 218) rfl ?_)
        refine z_iload_n C d_Md_commit_218 rfl (z_pc (pc' := 219) rfl ?_)
        refine z_aload_n C d_Md_commit_219 rfl (z_pc (pc' := 220) rfl ?_)
        obtain ⟨x98, h99, hf⟩ := zbind hf
        refine z_getr C fl_Md_50 rfl h99 d_Md_commit_220 (z_pc (pc' := 223) rfl ?_)
        refine z_iload_n C d_Md_commit_223 rfl (z_pc (pc' := 224) rfl ?_)
        obtain ⟨x100, h101, hf⟩ := zbind hf
        refine z_iald C h101 d_Md_commit_224 (z_pc (pc' := 225) rfl ?_)
        refine z_if_le (tgt := 242) C d_Md_commit_225 (by decide) (fun c102 => ?_) (fun c102 => z_pc (pc' := 228) rfl ?_)
        · have hf := zpos c102 hf
          refine z_iconst C d_Md_commit_242 (z_pc (pc' := 243) rfl ?_)
          obtain ⟨M103, h104, hf⟩ := zbind hf
          refine z_iast C h104 d_Md_commit_243 (z_pc (pc' := 244) rfl ?_)
          refine z_aload_n C d_Md_commit_244 rfl (z_pc (pc' := 245) rfl ?_)
          obtain ⟨x105, h106, hf⟩ := zbind hf
          refine z_getr C fl_Md_26 rfl h106 d_Md_commit_245 (z_pc (pc' := 248) rfl ?_)
          refine z_iload_n C d_Md_commit_248 rfl (z_pc (pc' := 249) rfl ?_)
          refine z_iconst C d_Md_commit_249 (z_pc (pc' := 250) rfl ?_)
          obtain ⟨M107, h108, hf⟩ := zbind hf
          refine z_iast C h108 d_Md_commit_250 (z_pc (pc' := 251) rfl ?_)
          refine z_aload_n C d_Md_commit_251 rfl (z_pc (pc' := 252) rfl ?_)
          obtain ⟨x109, h110, hf⟩ := zbind hf
          refine z_getr C fl_Md_32 rfl h110 d_Md_commit_252 (z_pc (pc' := 255) rfl ?_)
          refine z_iload_n C d_Md_commit_255 rfl (z_pc (pc' := 256) rfl ?_)
          refine z_aload_n C d_Md_commit_256 rfl (z_pc (pc' := 257) rfl ?_)
          obtain ⟨x111, h112, hf⟩ := zbind hf
          refine z_geti C fl_Md_128 h112 d_Md_commit_257 (z_pc (pc' := 260) rfl ?_)
          obtain ⟨M113, h114, hf⟩ := zbind hf
          refine z_iast C h114 d_Md_commit_260 (z_pc (pc' := 261) rfl ?_)
          refine z_aload_n C d_Md_commit_261 rfl (z_pc (pc' := 262) rfl ?_)
          obtain ⟨x115, h116, hf⟩ := zbind hf
          refine z_getr C fl_Md_35 rfl h116 d_Md_commit_262 (z_pc (pc' := 265) rfl ?_)
          refine z_iload_n C d_Md_commit_265 rfl (z_pc (pc' := 266) rfl ?_)
          refine z_iload_n C d_Md_commit_266 rfl (z_pc (pc' := 267) rfl ?_)
          refine z_iload_n C d_Md_commit_267 rfl (z_pc (pc' := 268) rfl ?_)
          refine z_iadd C d_Md_commit_268 (z_pc (pc' := 269) rfl ?_)
          obtain ⟨M117, h118, hf⟩ := zbind hf
          refine z_iast C h118 d_Md_commit_269 (z_pc (pc' := 270) rfl ?_)
          refine z_iinc C d_Md_commit_270 rfl (by decide) (z_pl (pc' := 273) (L' := [some (zv n0 a0), some (zi a1), some (zi (zadd v2 1)), some (zi x59)]) rfl rfl ?_)
          refine z_goto (tgt := 127) C d_Md_commit_273 (by decide) ?_
          exact z_sub2 (ih _ _ hf) (And.intro rfl (And.intro rfl (And.intro rfl trivial)))
        · have hf := zneg c102 hf
          refine z_aload_n C d_Md_commit_228 rfl (z_pc (pc' := 229) rfl ?_)
          obtain ⟨x119, h120, hf⟩ := zbind hf
          refine z_geti C fl_Md_71 h120 d_Md_commit_229 (z_pc (pc' := 232) rfl ?_)
          refine z_aload_n C d_Md_commit_232 rfl (z_pc (pc' := 233) rfl ?_)
          obtain ⟨x121, h122, hf⟩ := zbind hf
          refine z_getr C fl_Md_50 rfl h122 d_Md_commit_233 (z_pc (pc' := 236) rfl ?_)
          refine z_iload_n C d_Md_commit_236 rfl (z_pc (pc' := 237) rfl ?_)
          obtain ⟨x123, h124, hf⟩ := zbind hf
          refine z_iald C h124 d_Md_commit_237 (z_pc (pc' := 238) rfl ?_)
          refine z_iadd C d_Md_commit_238 (z_pc (pc' := 239) rfl ?_)
          refine z_goto (tgt := 243) C d_Md_commit_239 (by decide) ?_
          obtain ⟨M125, h126, hf⟩ := zbind hf
          refine z_iast C h126 d_Md_commit_243 (z_pc (pc' := 244) rfl ?_)
          refine z_aload_n C d_Md_commit_244 rfl (z_pc (pc' := 245) rfl ?_)
          obtain ⟨x127, h128, hf⟩ := zbind hf
          refine z_getr C fl_Md_26 rfl h128 d_Md_commit_245 (z_pc (pc' := 248) rfl ?_)
          refine z_iload_n C d_Md_commit_248 rfl (z_pc (pc' := 249) rfl ?_)
          refine z_iconst C d_Md_commit_249 (z_pc (pc' := 250) rfl ?_)
          obtain ⟨M129, h130, hf⟩ := zbind hf
          refine z_iast C h130 d_Md_commit_250 (z_pc (pc' := 251) rfl ?_)
          refine z_aload_n C d_Md_commit_251 rfl (z_pc (pc' := 252) rfl ?_)
          obtain ⟨x131, h132, hf⟩ := zbind hf
          refine z_getr C fl_Md_32 rfl h132 d_Md_commit_252 (z_pc (pc' := 255) rfl ?_)
          refine z_iload_n C d_Md_commit_255 rfl (z_pc (pc' := 256) rfl ?_)
          refine z_aload_n C d_Md_commit_256 rfl (z_pc (pc' := 257) rfl ?_)
          obtain ⟨x133, h134, hf⟩ := zbind hf
          refine z_geti C fl_Md_128 h134 d_Md_commit_257 (z_pc (pc' := 260) rfl ?_)
          obtain ⟨M135, h136, hf⟩ := zbind hf
          refine z_iast C h136 d_Md_commit_260 (z_pc (pc' := 261) rfl ?_)
          refine z_aload_n C d_Md_commit_261 rfl (z_pc (pc' := 262) rfl ?_)
          obtain ⟨x137, h138, hf⟩ := zbind hf
          refine z_getr C fl_Md_35 rfl h138 d_Md_commit_262 (z_pc (pc' := 265) rfl ?_)
          refine z_iload_n C d_Md_commit_265 rfl (z_pc (pc' := 266) rfl ?_)
          refine z_iload_n C d_Md_commit_266 rfl (z_pc (pc' := 267) rfl ?_)
          refine z_iload_n C d_Md_commit_267 rfl (z_pc (pc' := 268) rfl ?_)
          refine z_iadd C d_Md_commit_268 (z_pc (pc' := 269) rfl ?_)
          obtain ⟨M139, h140, hf⟩ := zbind hf
          refine z_iast C h140 d_Md_commit_269 (z_pc (pc' := 270) rfl ?_)
          refine z_iinc C d_Md_commit_270 rfl (by decide) (z_pl (pc' := 273) (L' := [some (zv n0 a0), some (zi a1), some (zi (zadd v2 1)), some (zi x59)]) rfl rfl ?_)
          refine z_goto (tgt := 127) C d_Md_commit_273 (by decide) ?_
          exact z_sub2 (ih _ _ hf) (And.intro rfl (And.intro rfl (And.intro rfl trivial)))
      · have hf := zneg c85 hf
        refine z_iconst C d_Md_commit_196 (z_pc (pc' := 197) rfl ?_)
        refine z_goto (tgt := 201) C d_Md_commit_197 (by decide) ?_
        obtain ⟨M141, h142, hf⟩ := zbind hf
        refine z_bast C h142 d_Md_commit_201 (z_pc (pc' := 202) rfl ?_)
        refine z_aload_n C d_Md_commit_202 rfl (z_pc (pc' := 203) rfl ?_)
        obtain ⟨x143, h144, hf⟩ := zbind hf
        refine z_getr C fl_Md_16 rfl h144 d_Md_commit_203 (z_pc (pc' := 206) rfl ?_)
        refine z_iload_n C d_Md_commit_206 rfl (z_pc (pc' := 207) rfl ?_)
        refine z_aload_n C d_Md_commit_207 rfl (z_pc (pc' := 208) rfl ?_)
        obtain ⟨x145, h146, hf⟩ := zbind hf
        refine z_getr C fl_Md_47 rfl h146 d_Md_commit_208 (z_pc (pc' := 211) rfl ?_)
        refine z_iload_n C d_Md_commit_211 rfl (z_pc (pc' := 212) rfl ?_)
        obtain ⟨x147, h148, hf⟩ := zbind hf
        refine z_iald C h148 d_Md_commit_212 (z_pc (pc' := 213) rfl ?_)
        obtain ⟨M149, h150, hf⟩ := zbind hf
        refine z_iast C h150 d_Md_commit_213 (z_pc (pc' := 214) rfl ?_)
        refine z_aload_n C d_Md_commit_214 rfl (z_pc (pc' := 215) rfl ?_)
        obtain ⟨x151, h152, hf⟩ := zbind hf
        refine z_getr C fl_Md_23 rfl h152 d_Md_commit_215 (z_pc (pc' := 218) rfl ?_)
        refine z_iload_n C d_Md_commit_218 rfl (z_pc (pc' := 219) rfl ?_)
        refine z_aload_n C d_Md_commit_219 rfl (z_pc (pc' := 220) rfl ?_)
        obtain ⟨x153, h154, hf⟩ := zbind hf
        refine z_getr C fl_Md_50 rfl h154 d_Md_commit_220 (z_pc (pc' := 223) rfl ?_)
        refine z_iload_n C d_Md_commit_223 rfl (z_pc (pc' := 224) rfl ?_)
        obtain ⟨x155, h156, hf⟩ := zbind hf
        refine z_iald C h156 d_Md_commit_224 (z_pc (pc' := 225) rfl ?_)
        refine z_if_le (tgt := 242) C d_Md_commit_225 (by decide) (fun c157 => ?_) (fun c157 => z_pc (pc' := 228) rfl ?_)
        · have hf := zpos c157 hf
          refine z_iconst C d_Md_commit_242 (z_pc (pc' := 243) rfl ?_)
          obtain ⟨M158, h159, hf⟩ := zbind hf
          refine z_iast C h159 d_Md_commit_243 (z_pc (pc' := 244) rfl ?_)
          refine z_aload_n C d_Md_commit_244 rfl (z_pc (pc' := 245) rfl ?_)
          obtain ⟨x160, h161, hf⟩ := zbind hf
          refine z_getr C fl_Md_26 rfl h161 d_Md_commit_245 (z_pc (pc' := 248) rfl ?_)
          refine z_iload_n C d_Md_commit_248 rfl (z_pc (pc' := 249) rfl ?_)
          refine z_iconst C d_Md_commit_249 (z_pc (pc' := 250) rfl ?_)
          obtain ⟨M162, h163, hf⟩ := zbind hf
          refine z_iast C h163 d_Md_commit_250 (z_pc (pc' := 251) rfl ?_)
          refine z_aload_n C d_Md_commit_251 rfl (z_pc (pc' := 252) rfl ?_)
          obtain ⟨x164, h165, hf⟩ := zbind hf
          refine z_getr C fl_Md_32 rfl h165 d_Md_commit_252 (z_pc (pc' := 255) rfl ?_)
          refine z_iload_n C d_Md_commit_255 rfl (z_pc (pc' := 256) rfl ?_)
          refine z_aload_n C d_Md_commit_256 rfl (z_pc (pc' := 257) rfl ?_)
          obtain ⟨x166, h167, hf⟩ := zbind hf
          refine z_geti C fl_Md_128 h167 d_Md_commit_257 (z_pc (pc' := 260) rfl ?_)
          obtain ⟨M168, h169, hf⟩ := zbind hf
          refine z_iast C h169 d_Md_commit_260 (z_pc (pc' := 261) rfl ?_)
          refine z_aload_n C d_Md_commit_261 rfl (z_pc (pc' := 262) rfl ?_)
          obtain ⟨x170, h171, hf⟩ := zbind hf
          refine z_getr C fl_Md_35 rfl h171 d_Md_commit_262 (z_pc (pc' := 265) rfl ?_)
          refine z_iload_n C d_Md_commit_265 rfl (z_pc (pc' := 266) rfl ?_)
          refine z_iload_n C d_Md_commit_266 rfl (z_pc (pc' := 267) rfl ?_)
          refine z_iload_n C d_Md_commit_267 rfl (z_pc (pc' := 268) rfl ?_)
          refine z_iadd C d_Md_commit_268 (z_pc (pc' := 269) rfl ?_)
          obtain ⟨M172, h173, hf⟩ := zbind hf
          refine z_iast C h173 d_Md_commit_269 (z_pc (pc' := 270) rfl ?_)
          refine z_iinc C d_Md_commit_270 rfl (by decide) (z_pl (pc' := 273) (L' := [some (zv n0 a0), some (zi a1), some (zi (zadd v2 1)), some (zi x59)]) rfl rfl ?_)
          refine z_goto (tgt := 127) C d_Md_commit_273 (by decide) ?_
          exact z_sub2 (ih _ _ hf) (And.intro rfl (And.intro rfl (And.intro rfl trivial)))
        · have hf := zneg c157 hf
          refine z_aload_n C d_Md_commit_228 rfl (z_pc (pc' := 229) rfl ?_)
          obtain ⟨x174, h175, hf⟩ := zbind hf
          refine z_geti C fl_Md_71 h175 d_Md_commit_229 (z_pc (pc' := 232) rfl ?_)
          refine z_aload_n C d_Md_commit_232 rfl (z_pc (pc' := 233) rfl ?_)
          obtain ⟨x176, h177, hf⟩ := zbind hf
          refine z_getr C fl_Md_50 rfl h177 d_Md_commit_233 (z_pc (pc' := 236) rfl ?_)
          refine z_iload_n C d_Md_commit_236 rfl (z_pc (pc' := 237) rfl ?_)
          obtain ⟨x178, h179, hf⟩ := zbind hf
          refine z_iald C h179 d_Md_commit_237 (z_pc (pc' := 238) rfl ?_)
          refine z_iadd C d_Md_commit_238 (z_pc (pc' := 239) rfl ?_)
          refine z_goto (tgt := 243) C d_Md_commit_239 (by decide) ?_
          obtain ⟨M180, h181, hf⟩ := zbind hf
          refine z_iast C h181 d_Md_commit_243 (z_pc (pc' := 244) rfl ?_)
          refine z_aload_n C d_Md_commit_244 rfl (z_pc (pc' := 245) rfl ?_)
          obtain ⟨x182, h183, hf⟩ := zbind hf
          refine z_getr C fl_Md_26 rfl h183 d_Md_commit_245 (z_pc (pc' := 248) rfl ?_)
          refine z_iload_n C d_Md_commit_248 rfl (z_pc (pc' := 249) rfl ?_)
          refine z_iconst C d_Md_commit_249 (z_pc (pc' := 250) rfl ?_)
          obtain ⟨M184, h185, hf⟩ := zbind hf
          refine z_iast C h185 d_Md_commit_250 (z_pc (pc' := 251) rfl ?_)
          refine z_aload_n C d_Md_commit_251 rfl (z_pc (pc' := 252) rfl ?_)
          obtain ⟨x186, h187, hf⟩ := zbind hf
          refine z_getr C fl_Md_32 rfl h187 d_Md_commit_252 (z_pc (pc' := 255) rfl ?_)
          refine z_iload_n C d_Md_commit_255 rfl (z_pc (pc' := 256) rfl ?_)
          refine z_aload_n C d_Md_commit_256 rfl (z_pc (pc' := 257) rfl ?_)
          obtain ⟨x188, h189, hf⟩ := zbind hf
          refine z_geti C fl_Md_128 h189 d_Md_commit_257 (z_pc (pc' := 260) rfl ?_)
          obtain ⟨M190, h191, hf⟩ := zbind hf
          refine z_iast C h191 d_Md_commit_260 (z_pc (pc' := 261) rfl ?_)
          refine z_aload_n C d_Md_commit_261 rfl (z_pc (pc' := 262) rfl ?_)
          obtain ⟨x192, h193, hf⟩ := zbind hf
          refine z_getr C fl_Md_35 rfl h193 d_Md_commit_262 (z_pc (pc' := 265) rfl ?_)
          refine z_iload_n C d_Md_commit_265 rfl (z_pc (pc' := 266) rfl ?_)
          refine z_iload_n C d_Md_commit_266 rfl (z_pc (pc' := 267) rfl ?_)
          refine z_iload_n C d_Md_commit_267 rfl (z_pc (pc' := 268) rfl ?_)
          refine z_iadd C d_Md_commit_268 (z_pc (pc' := 269) rfl ?_)
          obtain ⟨M194, h195, hf⟩ := zbind hf
          refine z_iast C h195 d_Md_commit_269 (z_pc (pc' := 270) rfl ?_)
          refine z_iinc C d_Md_commit_270 rfl (by decide) (z_pl (pc' := 273) (L' := [some (zv n0 a0), some (zi a1), some (zi (zadd v2 1)), some (zi x59)]) rfl rfl ?_)
          refine z_goto (tgt := 127) C d_Md_commit_273 (by decide) ?_
          exact z_sub2 (ih _ _ hf) (And.intro rfl (And.intro rfl (And.intro rfl trivial)))
theorem e_Md_commit {a0 : Nat} {M : zHp} {q : Int × zHp} (hf : f_Md_commit a0 M = some q) : zk M a0 = 8 := by
  unfold f_Md_commit at hf
  exact (zif hf).1
set_option maxHeartbeats 4000000 in
set_option maxRecDepth 100000 in
theorem c_Md_commit (D : va_G) (n0 : Nat) (l : Launch) {a0 : Nat} {M : zHp} {r : Int} {M' : zHp} (hf : f_Md_commit a0 M = some (r, M')) : zM D n0 l y_Md_commit b_Md_commit 4 (some .int) 5 110 0 0 [zv n0 a0] M (some (zi r)) M' := by
  refine zM.ofZ (by decide) (zcr zcn) (Nat.le_of_ble_eq_true rfl) ?_
  intro p e s m below meth c C hr hnm
  have C : zC D n0 p s m meth c b_Md_commit 4 "LayerVaultModel" := C
  refine z_eqL (L' := [some (zv n0 a0), none, none, none]) rfl ?_
  unfold f_Md_commit at hf
  have hf := (zif hf).2
  refine z_aload_n C d_Md_commit_0 rfl (z_pc (pc' := 1) rfl ?_)
  obtain ⟨x1, h2, hf⟩ := zbind hf
  refine z_geti C fl_Md_134 h2 d_Md_commit_1 (z_pc (pc' := 4) rfl ?_)
  refine z_if_ne (tgt := 10) C d_Md_commit_4 (by decide) (fun c3 => ?_) (fun c3 => z_pc (pc' := 7) rfl ?_)
  · have hf := zneg c3 hf
    refine z_aload_n C d_Md_commit_10 rfl (z_pc (pc' := 11) rfl ?_)
    refine z_aload_n C d_Md_commit_11 rfl (z_pc (pc' := 12) rfl ?_)
    obtain ⟨x4, h5, hf⟩ := zbind hf
    refine z_geti C fl_Md_134 h5 d_Md_commit_12 (z_pc (pc' := 15) rfl ?_)
    obtain ⟨x8, M7, h6, hf⟩ := zb2_inv hf
    refine z_callV C [zi x4] [] kv_Md_131 (c_Md_needsHead D n0 l h6) (e_Md_needsHead h6) ⟨(Nat.le_of_ble_eq_true rfl), (Nat.le_of_ble_eq_true rfl)⟩ (Nat.le_of_ble_eq_true rfl) ⟨(Nat.le_of_ble_eq_true rfl), (Nat.le_of_ble_eq_true rfl)⟩ d_Md_commit_15 (z_pc (pc' := 18) rfl ?_)
    refine z_if_eq (tgt := 40) C d_Md_commit_18 (by decide) (fun c9 => ?_) (fun c9 => z_pc (pc' := 21) rfl ?_)
    · have hf := zpos c9 hf
      refine z_aload_n C d_Md_commit_40 rfl (z_pc (pc' := 41) rfl ?_)
      refine z_iconst C d_Md_commit_41 (z_pc (pc' := 42) rfl ?_)
      obtain ⟨x12, M11, h10, hf⟩ := zb2_inv hf
      refine z_callV C [zi (-1)] [] kv_Md_109 (c_Md_size D n0 l h10) (e_Md_size h10) ⟨(Nat.le_of_ble_eq_true rfl), (Nat.le_of_ble_eq_true rfl)⟩ (Nat.le_of_ble_eq_true rfl) ⟨(Nat.le_of_ble_eq_true rfl), (Nat.le_of_ble_eq_true rfl)⟩ d_Md_commit_42 (z_pc (pc' := 45) rfl ?_)
      refine z_aload_n C d_Md_commit_45 rfl (z_pc (pc' := 46) rfl ?_)
      obtain ⟨x13, h14, hf⟩ := zbind hf
      refine z_geti C fl_Md_134 h14 d_Md_commit_46 (z_pc (pc' := 49) rfl ?_)
      refine z_iadd C d_Md_commit_49 (z_pc (pc' := 50) rfl ?_)
      refine z_bipush C d_Md_commit_50 (by decide) (z_pc (pc' := 52) rfl ?_)
      refine z_icmp_le (tgt := 59) C d_Md_commit_52 (by decide) (fun c15 => ?_) (fun c15 => z_pc (pc' := 55) rfl ?_)
      · have hf := zpos c15 hf
        refine z_aload_n C d_Md_commit_59 rfl (z_pc (pc' := 60) rfl ?_)
        obtain ⟨x16, h17, hf⟩ := zbind hf
        refine z_getr C fl_Md_68 rfl h17 d_Md_commit_60 (z_pc (pc' := 63) rfl ?_)
        refine z_aload_n C d_Md_commit_63 rfl (z_pc (pc' := 64) rfl ?_)
        obtain ⟨x18, h19, hf⟩ := zbind hf
        refine z_geti C fl_Md_125 h19 d_Md_commit_64 (z_pc (pc' := 67) rfl ?_)
        refine z_aload_n C d_Md_commit_67 rfl (z_pc (pc' := 68) rfl ?_)
        refine z_aload_n C d_Md_commit_68 rfl (z_pc (pc' := 69) rfl ?_)
        obtain ⟨x20, h21, hf⟩ := zbind hf
        refine z_geti C fl_Md_134 h21 d_Md_commit_69 (z_pc (pc' := 72) rfl ?_)
        obtain ⟨x24, M23, h22, hf⟩ := zb2_inv hf
        refine z_callV C [zi x20] [zi x18, zv n0 x16] kv_Md_131 (c_Md_needsHead D n0 l h22) (e_Md_needsHead h22) ⟨(Nat.le_of_ble_eq_true rfl), (Nat.le_of_ble_eq_true rfl)⟩ (Nat.le_of_ble_eq_true rfl) ⟨(Nat.le_of_ble_eq_true rfl), (Nat.le_of_ble_eq_true rfl)⟩ d_Md_commit_72 (z_pc (pc' := 75) rfl ?_)
        obtain ⟨M25, h26, hf⟩ := zbind hf
        refine z_bast C h26 d_Md_commit_75 (z_pc (pc' := 76) rfl ?_)
        refine z_aload_n C d_Md_commit_76 rfl (z_pc (pc' := 77) rfl ?_)
        obtain ⟨x27, h28, hf⟩ := zbind hf
        refine z_getr C fl_Md_62 rfl h28 d_Md_commit_77 (z_pc (pc' := 80) rfl ?_)
        refine z_aload_n C d_Md_commit_80 rfl (z_pc (pc' := 81) rfl ?_)
        obtain ⟨x29, h30, hf⟩ := zbind hf
        refine z_geti C fl_Md_125 h30 d_Md_commit_81 (z_pc (pc' := 84) rfl ?_)
        refine z_aload_n C d_Md_commit_84 rfl (z_pc (pc' := 85) rfl ?_)
        obtain ⟨x31, h32, hf⟩ := zbind hf
        refine z_geti C fl_Md_89 h32 d_Md_commit_85 (z_pc (pc' := 88) rfl ?_)
        refine z_iconst C d_Md_commit_88 (z_pc (pc' := 89) rfl ?_)
        refine z_iadd C d_Md_commit_89 (z_pc (pc' := 90) rfl ?_)
        obtain ⟨M33, h34, hf⟩ := zbind hf
        refine z_iast C h34 d_Md_commit_90 (z_pc (pc' := 91) rfl ?_)
        refine z_aload_n C d_Md_commit_91 rfl (z_pc (pc' := 92) rfl ?_)
        obtain ⟨x35, h36, hf⟩ := zbind hf
        refine z_getr C fl_Md_65 rfl h36 d_Md_commit_92 (z_pc (pc' := 95) rfl ?_)
        refine z_aload_n C d_Md_commit_95 rfl (z_pc (pc' := 96) rfl ?_)
        obtain ⟨x37, h38, hf⟩ := zbind hf
        refine z_geti C fl_Md_125 h38 d_Md_commit_96 (z_pc (pc' := 99) rfl ?_)
        refine z_iconst C d_Md_commit_99 (z_pc (pc' := 100) rfl ?_)
        refine z_aload_n C d_Md_commit_100 rfl (z_pc (pc' := 101) rfl ?_)
        obtain ⟨x39, h40, hf⟩ := zbind hf
        refine z_geti C fl_Md_134 h40 d_Md_commit_101 (z_pc (pc' := 104) rfl ?_)
        refine z_iadd C d_Md_commit_104 (z_pc (pc' := 105) rfl ?_)
        obtain ⟨M41, h42, hf⟩ := zbind hf
        refine z_iast C h42 d_Md_commit_105 (z_pc (pc' := 106) rfl ?_)
        refine z_aload_n C d_Md_commit_106 rfl (z_pc (pc' := 107) rfl ?_)
        refine z_dupr C d_Md_commit_107 (z_pc (pc' := 108) rfl ?_)
        obtain ⟨x43, h44, hf⟩ := zbind hf
        refine z_geti C fl_Md_125 h44 d_Md_commit_108 (z_pc (pc' := 111) rfl ?_)
        refine z_iconst C d_Md_commit_111 (z_pc (pc' := 112) rfl ?_)
        refine z_iadd C d_Md_commit_112 (z_pc (pc' := 113) rfl ?_)
        obtain ⟨M45, h46, hf⟩ := zbind hf
        refine z_puti C fp_Md_125 (by decide) rfl h46 d_Md_commit_113 (z_pc (pc' := 116) rfl ?_)
        refine z_aload_n C d_Md_commit_116 rfl (z_pc (pc' := 117) rfl ?_)
        refine z_aload_n C d_Md_commit_117 rfl (z_pc (pc' := 118) rfl ?_)
        obtain ⟨x47, h48, hf⟩ := zbind hf
        refine z_geti C fl_Md_134 h48 d_Md_commit_118 (z_pc (pc' := 121) rfl ?_)
        obtain ⟨x51, M50, h49, hf⟩ := zb2_inv hf
        refine z_callV C [zi x47] [] kv_Md_150 (c_Md_record D n0 l h49) (e_Md_record h49) ⟨(Nat.le_of_ble_eq_true rfl), (Nat.le_of_ble_eq_true rfl)⟩ (Nat.le_of_ble_eq_true rfl) ⟨(Nat.le_of_ble_eq_true rfl), (Nat.le_of_ble_eq_true rfl)⟩ d_Md_commit_121 (z_pc (pc' := 124) rfl ?_)
        refine z_istore_n C d_Md_commit_124 (by decide) (z_pl (pc' := 125) (L' := [some (zv n0 a0), some (zi x51), none, none]) rfl rfl ?_)
        refine z_iconst C d_Md_commit_125 (z_pc (pc' := 126) rfl ?_)
        refine z_istore_n C d_Md_commit_126 (by decide) (z_pl (pc' := 127) (L' := [some (zv n0 a0), some (zi x51), some (zi 0), none]) rfl rfl ?_)
        refine z_sub2 (w_Md_commit_L127 C hr ?_ _ _ _ hf) (And.intro rfl (And.intro rfl (And.intro rfl trivial)))
        intro M196 hf
        refine z_aload_n C d_Md_commit_276 rfl (z_pc (pc' := 277) rfl ?_)
        obtain ⟨x197, h198, hf⟩ := zbind hf
        refine z_geti C fl_Md_134 h198 d_Md_commit_277 (z_pc (pc' := 280) rfl ?_)
        refine z_istore_n C d_Md_commit_280 (by decide) (z_pl (pc' := 281) (L' := [some (zv n0 a0), none, some (zi x197), none]) rfl rfl ?_)
        refine z_aload_n C d_Md_commit_281 rfl (z_pc (pc' := 282) rfl ?_)
        refine z_iconst C d_Md_commit_282 (z_pc (pc' := 283) rfl ?_)
        obtain ⟨M199, h200, hf⟩ := zbind hf
        refine z_puti C fp_Md_134 (by decide) rfl h200 d_Md_commit_283 (z_pc (pc' := 286) rfl ?_)
        refine z_iload_n C d_Md_commit_286 rfl (z_pc (pc' := 287) rfl ?_)
        exact z_iret C hr (Nat.le_of_ble_eq_true rfl) (Nat.le_of_ble_eq_true rfl) d_Md_commit_287 hf
      · have hf := zneg c15 hf
        refine z_aload_n C d_Md_commit_55 rfl (z_pc (pc' := 56) rfl ?_)
        obtain ⟨M202, h201, hf⟩ := zbind hf
        refine z_callV C [] [] kv_Md_147 (c_Md_flushAll D n0 l h201) (e_Md_flushAll h201) ⟨(Nat.le_of_ble_eq_true rfl), (Nat.le_of_ble_eq_true rfl)⟩ (Nat.le_of_ble_eq_true rfl) ⟨(Nat.le_of_ble_eq_true rfl), (Nat.le_of_ble_eq_true rfl)⟩ d_Md_commit_56 (z_pc (pc' := 59) rfl ?_)
        refine z_aload_n C d_Md_commit_59 rfl (z_pc (pc' := 60) rfl ?_)
        obtain ⟨x203, h204, hf⟩ := zbind hf
        refine z_getr C fl_Md_68 rfl h204 d_Md_commit_60 (z_pc (pc' := 63) rfl ?_)
        refine z_aload_n C d_Md_commit_63 rfl (z_pc (pc' := 64) rfl ?_)
        obtain ⟨x205, h206, hf⟩ := zbind hf
        refine z_geti C fl_Md_125 h206 d_Md_commit_64 (z_pc (pc' := 67) rfl ?_)
        refine z_aload_n C d_Md_commit_67 rfl (z_pc (pc' := 68) rfl ?_)
        refine z_aload_n C d_Md_commit_68 rfl (z_pc (pc' := 69) rfl ?_)
        obtain ⟨x207, h208, hf⟩ := zbind hf
        refine z_geti C fl_Md_134 h208 d_Md_commit_69 (z_pc (pc' := 72) rfl ?_)
        obtain ⟨x211, M210, h209, hf⟩ := zb2_inv hf
        refine z_callV C [zi x207] [zi x205, zv n0 x203] kv_Md_131 (c_Md_needsHead D n0 l h209) (e_Md_needsHead h209) ⟨(Nat.le_of_ble_eq_true rfl), (Nat.le_of_ble_eq_true rfl)⟩ (Nat.le_of_ble_eq_true rfl) ⟨(Nat.le_of_ble_eq_true rfl), (Nat.le_of_ble_eq_true rfl)⟩ d_Md_commit_72 (z_pc (pc' := 75) rfl ?_)
        obtain ⟨M212, h213, hf⟩ := zbind hf
        refine z_bast C h213 d_Md_commit_75 (z_pc (pc' := 76) rfl ?_)
        refine z_aload_n C d_Md_commit_76 rfl (z_pc (pc' := 77) rfl ?_)
        obtain ⟨x214, h215, hf⟩ := zbind hf
        refine z_getr C fl_Md_62 rfl h215 d_Md_commit_77 (z_pc (pc' := 80) rfl ?_)
        refine z_aload_n C d_Md_commit_80 rfl (z_pc (pc' := 81) rfl ?_)
        obtain ⟨x216, h217, hf⟩ := zbind hf
        refine z_geti C fl_Md_125 h217 d_Md_commit_81 (z_pc (pc' := 84) rfl ?_)
        refine z_aload_n C d_Md_commit_84 rfl (z_pc (pc' := 85) rfl ?_)
        obtain ⟨x218, h219, hf⟩ := zbind hf
        refine z_geti C fl_Md_89 h219 d_Md_commit_85 (z_pc (pc' := 88) rfl ?_)
        refine z_iconst C d_Md_commit_88 (z_pc (pc' := 89) rfl ?_)
        refine z_iadd C d_Md_commit_89 (z_pc (pc' := 90) rfl ?_)
        obtain ⟨M220, h221, hf⟩ := zbind hf
        refine z_iast C h221 d_Md_commit_90 (z_pc (pc' := 91) rfl ?_)
        refine z_aload_n C d_Md_commit_91 rfl (z_pc (pc' := 92) rfl ?_)
        obtain ⟨x222, h223, hf⟩ := zbind hf
        refine z_getr C fl_Md_65 rfl h223 d_Md_commit_92 (z_pc (pc' := 95) rfl ?_)
        refine z_aload_n C d_Md_commit_95 rfl (z_pc (pc' := 96) rfl ?_)
        obtain ⟨x224, h225, hf⟩ := zbind hf
        refine z_geti C fl_Md_125 h225 d_Md_commit_96 (z_pc (pc' := 99) rfl ?_)
        refine z_iconst C d_Md_commit_99 (z_pc (pc' := 100) rfl ?_)
        refine z_aload_n C d_Md_commit_100 rfl (z_pc (pc' := 101) rfl ?_)
        obtain ⟨x226, h227, hf⟩ := zbind hf
        refine z_geti C fl_Md_134 h227 d_Md_commit_101 (z_pc (pc' := 104) rfl ?_)
        refine z_iadd C d_Md_commit_104 (z_pc (pc' := 105) rfl ?_)
        obtain ⟨M228, h229, hf⟩ := zbind hf
        refine z_iast C h229 d_Md_commit_105 (z_pc (pc' := 106) rfl ?_)
        refine z_aload_n C d_Md_commit_106 rfl (z_pc (pc' := 107) rfl ?_)
        refine z_dupr C d_Md_commit_107 (z_pc (pc' := 108) rfl ?_)
        obtain ⟨x230, h231, hf⟩ := zbind hf
        refine z_geti C fl_Md_125 h231 d_Md_commit_108 (z_pc (pc' := 111) rfl ?_)
        refine z_iconst C d_Md_commit_111 (z_pc (pc' := 112) rfl ?_)
        refine z_iadd C d_Md_commit_112 (z_pc (pc' := 113) rfl ?_)
        obtain ⟨M232, h233, hf⟩ := zbind hf
        refine z_puti C fp_Md_125 (by decide) rfl h233 d_Md_commit_113 (z_pc (pc' := 116) rfl ?_)
        refine z_aload_n C d_Md_commit_116 rfl (z_pc (pc' := 117) rfl ?_)
        refine z_aload_n C d_Md_commit_117 rfl (z_pc (pc' := 118) rfl ?_)
        obtain ⟨x234, h235, hf⟩ := zbind hf
        refine z_geti C fl_Md_134 h235 d_Md_commit_118 (z_pc (pc' := 121) rfl ?_)
        obtain ⟨x238, M237, h236, hf⟩ := zb2_inv hf
        refine z_callV C [zi x234] [] kv_Md_150 (c_Md_record D n0 l h236) (e_Md_record h236) ⟨(Nat.le_of_ble_eq_true rfl), (Nat.le_of_ble_eq_true rfl)⟩ (Nat.le_of_ble_eq_true rfl) ⟨(Nat.le_of_ble_eq_true rfl), (Nat.le_of_ble_eq_true rfl)⟩ d_Md_commit_121 (z_pc (pc' := 124) rfl ?_)
        refine z_istore_n C d_Md_commit_124 (by decide) (z_pl (pc' := 125) (L' := [some (zv n0 a0), some (zi x238), none, none]) rfl rfl ?_)
        refine z_iconst C d_Md_commit_125 (z_pc (pc' := 126) rfl ?_)
        refine z_istore_n C d_Md_commit_126 (by decide) (z_pl (pc' := 127) (L' := [some (zv n0 a0), some (zi x238), some (zi 0), none]) rfl rfl ?_)
        refine z_sub2 (w_Md_commit_L127 C hr ?_ _ _ _ hf) (And.intro rfl (And.intro rfl (And.intro rfl trivial)))
        intro M239 hf
        refine z_aload_n C d_Md_commit_276 rfl (z_pc (pc' := 277) rfl ?_)
        obtain ⟨x240, h241, hf⟩ := zbind hf
        refine z_geti C fl_Md_134 h241 d_Md_commit_277 (z_pc (pc' := 280) rfl ?_)
        refine z_istore_n C d_Md_commit_280 (by decide) (z_pl (pc' := 281) (L' := [some (zv n0 a0), none, some (zi x240), none]) rfl rfl ?_)
        refine z_aload_n C d_Md_commit_281 rfl (z_pc (pc' := 282) rfl ?_)
        refine z_iconst C d_Md_commit_282 (z_pc (pc' := 283) rfl ?_)
        obtain ⟨M242, h243, hf⟩ := zbind hf
        refine z_puti C fp_Md_134 (by decide) rfl h243 d_Md_commit_283 (z_pc (pc' := 286) rfl ?_)
        refine z_iload_n C d_Md_commit_286 rfl (z_pc (pc' := 287) rfl ?_)
        exact z_iret C hr (Nat.le_of_ble_eq_true rfl) (Nat.le_of_ble_eq_true rfl) d_Md_commit_287 hf
    · have hf := zneg c9 hf
      refine z_aload_n C d_Md_commit_21 rfl (z_pc (pc' := 22) rfl ?_)
      obtain ⟨x244, h245, hf⟩ := zbind hf
      refine z_geti C fl_Md_128 h245 d_Md_commit_22 (z_pc (pc' := 25) rfl ?_)
      refine z_aload_n C d_Md_commit_25 rfl (z_pc (pc' := 26) rfl ?_)
      obtain ⟨x246, h247, hf⟩ := zbind hf
      refine z_geti C fl_Md_144 h247 d_Md_commit_26 (z_pc (pc' := 29) rfl ?_)
      refine z_isub C d_Md_commit_29 (z_pc (pc' := 30) rfl ?_)
      refine z_iconst C d_Md_commit_30 (z_pc (pc' := 31) rfl ?_)
      refine z_iadd C d_Md_commit_31 (z_pc (pc' := 32) rfl ?_)
      refine z_bipush C d_Md_commit_32 (by decide) (z_pc (pc' := 34) rfl ?_)
      refine z_icmp_lt (tgt := 40) C d_Md_commit_34 (by decide) (fun c248 => ?_) (fun c248 => z_pc (pc' := 37) rfl ?_)
      · have hf := zpos c248 hf
        refine z_aload_n C d_Md_commit_40 rfl (z_pc (pc' := 41) rfl ?_)
        refine z_iconst C d_Md_commit_41 (z_pc (pc' := 42) rfl ?_)
        obtain ⟨x251, M250, h249, hf⟩ := zb2_inv hf
        refine z_callV C [zi (-1)] [] kv_Md_109 (c_Md_size D n0 l h249) (e_Md_size h249) ⟨(Nat.le_of_ble_eq_true rfl), (Nat.le_of_ble_eq_true rfl)⟩ (Nat.le_of_ble_eq_true rfl) ⟨(Nat.le_of_ble_eq_true rfl), (Nat.le_of_ble_eq_true rfl)⟩ d_Md_commit_42 (z_pc (pc' := 45) rfl ?_)
        refine z_aload_n C d_Md_commit_45 rfl (z_pc (pc' := 46) rfl ?_)
        obtain ⟨x252, h253, hf⟩ := zbind hf
        refine z_geti C fl_Md_134 h253 d_Md_commit_46 (z_pc (pc' := 49) rfl ?_)
        refine z_iadd C d_Md_commit_49 (z_pc (pc' := 50) rfl ?_)
        refine z_bipush C d_Md_commit_50 (by decide) (z_pc (pc' := 52) rfl ?_)
        refine z_icmp_le (tgt := 59) C d_Md_commit_52 (by decide) (fun c254 => ?_) (fun c254 => z_pc (pc' := 55) rfl ?_)
        · have hf := zpos c254 hf
          refine z_aload_n C d_Md_commit_59 rfl (z_pc (pc' := 60) rfl ?_)
          obtain ⟨x255, h256, hf⟩ := zbind hf
          refine z_getr C fl_Md_68 rfl h256 d_Md_commit_60 (z_pc (pc' := 63) rfl ?_)
          refine z_aload_n C d_Md_commit_63 rfl (z_pc (pc' := 64) rfl ?_)
          obtain ⟨x257, h258, hf⟩ := zbind hf
          refine z_geti C fl_Md_125 h258 d_Md_commit_64 (z_pc (pc' := 67) rfl ?_)
          refine z_aload_n C d_Md_commit_67 rfl (z_pc (pc' := 68) rfl ?_)
          refine z_aload_n C d_Md_commit_68 rfl (z_pc (pc' := 69) rfl ?_)
          obtain ⟨x259, h260, hf⟩ := zbind hf
          refine z_geti C fl_Md_134 h260 d_Md_commit_69 (z_pc (pc' := 72) rfl ?_)
          obtain ⟨x263, M262, h261, hf⟩ := zb2_inv hf
          refine z_callV C [zi x259] [zi x257, zv n0 x255] kv_Md_131 (c_Md_needsHead D n0 l h261) (e_Md_needsHead h261) ⟨(Nat.le_of_ble_eq_true rfl), (Nat.le_of_ble_eq_true rfl)⟩ (Nat.le_of_ble_eq_true rfl) ⟨(Nat.le_of_ble_eq_true rfl), (Nat.le_of_ble_eq_true rfl)⟩ d_Md_commit_72 (z_pc (pc' := 75) rfl ?_)
          obtain ⟨M264, h265, hf⟩ := zbind hf
          refine z_bast C h265 d_Md_commit_75 (z_pc (pc' := 76) rfl ?_)
          refine z_aload_n C d_Md_commit_76 rfl (z_pc (pc' := 77) rfl ?_)
          obtain ⟨x266, h267, hf⟩ := zbind hf
          refine z_getr C fl_Md_62 rfl h267 d_Md_commit_77 (z_pc (pc' := 80) rfl ?_)
          refine z_aload_n C d_Md_commit_80 rfl (z_pc (pc' := 81) rfl ?_)
          obtain ⟨x268, h269, hf⟩ := zbind hf
          refine z_geti C fl_Md_125 h269 d_Md_commit_81 (z_pc (pc' := 84) rfl ?_)
          refine z_aload_n C d_Md_commit_84 rfl (z_pc (pc' := 85) rfl ?_)
          obtain ⟨x270, h271, hf⟩ := zbind hf
          refine z_geti C fl_Md_89 h271 d_Md_commit_85 (z_pc (pc' := 88) rfl ?_)
          refine z_iconst C d_Md_commit_88 (z_pc (pc' := 89) rfl ?_)
          refine z_iadd C d_Md_commit_89 (z_pc (pc' := 90) rfl ?_)
          obtain ⟨M272, h273, hf⟩ := zbind hf
          refine z_iast C h273 d_Md_commit_90 (z_pc (pc' := 91) rfl ?_)
          refine z_aload_n C d_Md_commit_91 rfl (z_pc (pc' := 92) rfl ?_)
          obtain ⟨x274, h275, hf⟩ := zbind hf
          refine z_getr C fl_Md_65 rfl h275 d_Md_commit_92 (z_pc (pc' := 95) rfl ?_)
          refine z_aload_n C d_Md_commit_95 rfl (z_pc (pc' := 96) rfl ?_)
          obtain ⟨x276, h277, hf⟩ := zbind hf
          refine z_geti C fl_Md_125 h277 d_Md_commit_96 (z_pc (pc' := 99) rfl ?_)
          refine z_iconst C d_Md_commit_99 (z_pc (pc' := 100) rfl ?_)
          refine z_aload_n C d_Md_commit_100 rfl (z_pc (pc' := 101) rfl ?_)
          obtain ⟨x278, h279, hf⟩ := zbind hf
          refine z_geti C fl_Md_134 h279 d_Md_commit_101 (z_pc (pc' := 104) rfl ?_)
          refine z_iadd C d_Md_commit_104 (z_pc (pc' := 105) rfl ?_)
          obtain ⟨M280, h281, hf⟩ := zbind hf
          refine z_iast C h281 d_Md_commit_105 (z_pc (pc' := 106) rfl ?_)
          refine z_aload_n C d_Md_commit_106 rfl (z_pc (pc' := 107) rfl ?_)
          refine z_dupr C d_Md_commit_107 (z_pc (pc' := 108) rfl ?_)
          obtain ⟨x282, h283, hf⟩ := zbind hf
          refine z_geti C fl_Md_125 h283 d_Md_commit_108 (z_pc (pc' := 111) rfl ?_)
          refine z_iconst C d_Md_commit_111 (z_pc (pc' := 112) rfl ?_)
          refine z_iadd C d_Md_commit_112 (z_pc (pc' := 113) rfl ?_)
          obtain ⟨M284, h285, hf⟩ := zbind hf
          refine z_puti C fp_Md_125 (by decide) rfl h285 d_Md_commit_113 (z_pc (pc' := 116) rfl ?_)
          refine z_aload_n C d_Md_commit_116 rfl (z_pc (pc' := 117) rfl ?_)
          refine z_aload_n C d_Md_commit_117 rfl (z_pc (pc' := 118) rfl ?_)
          obtain ⟨x286, h287, hf⟩ := zbind hf
          refine z_geti C fl_Md_134 h287 d_Md_commit_118 (z_pc (pc' := 121) rfl ?_)
          obtain ⟨x290, M289, h288, hf⟩ := zb2_inv hf
          refine z_callV C [zi x286] [] kv_Md_150 (c_Md_record D n0 l h288) (e_Md_record h288) ⟨(Nat.le_of_ble_eq_true rfl), (Nat.le_of_ble_eq_true rfl)⟩ (Nat.le_of_ble_eq_true rfl) ⟨(Nat.le_of_ble_eq_true rfl), (Nat.le_of_ble_eq_true rfl)⟩ d_Md_commit_121 (z_pc (pc' := 124) rfl ?_)
          refine z_istore_n C d_Md_commit_124 (by decide) (z_pl (pc' := 125) (L' := [some (zv n0 a0), some (zi x290), none, none]) rfl rfl ?_)
          refine z_iconst C d_Md_commit_125 (z_pc (pc' := 126) rfl ?_)
          refine z_istore_n C d_Md_commit_126 (by decide) (z_pl (pc' := 127) (L' := [some (zv n0 a0), some (zi x290), some (zi 0), none]) rfl rfl ?_)
          refine z_sub2 (w_Md_commit_L127 C hr ?_ _ _ _ hf) (And.intro rfl (And.intro rfl (And.intro rfl trivial)))
          intro M291 hf
          refine z_aload_n C d_Md_commit_276 rfl (z_pc (pc' := 277) rfl ?_)
          obtain ⟨x292, h293, hf⟩ := zbind hf
          refine z_geti C fl_Md_134 h293 d_Md_commit_277 (z_pc (pc' := 280) rfl ?_)
          refine z_istore_n C d_Md_commit_280 (by decide) (z_pl (pc' := 281) (L' := [some (zv n0 a0), none, some (zi x292), none]) rfl rfl ?_)
          refine z_aload_n C d_Md_commit_281 rfl (z_pc (pc' := 282) rfl ?_)
          refine z_iconst C d_Md_commit_282 (z_pc (pc' := 283) rfl ?_)
          obtain ⟨M294, h295, hf⟩ := zbind hf
          refine z_puti C fp_Md_134 (by decide) rfl h295 d_Md_commit_283 (z_pc (pc' := 286) rfl ?_)
          refine z_iload_n C d_Md_commit_286 rfl (z_pc (pc' := 287) rfl ?_)
          exact z_iret C hr (Nat.le_of_ble_eq_true rfl) (Nat.le_of_ble_eq_true rfl) d_Md_commit_287 hf
        · have hf := zneg c254 hf
          refine z_aload_n C d_Md_commit_55 rfl (z_pc (pc' := 56) rfl ?_)
          obtain ⟨M297, h296, hf⟩ := zbind hf
          refine z_callV C [] [] kv_Md_147 (c_Md_flushAll D n0 l h296) (e_Md_flushAll h296) ⟨(Nat.le_of_ble_eq_true rfl), (Nat.le_of_ble_eq_true rfl)⟩ (Nat.le_of_ble_eq_true rfl) ⟨(Nat.le_of_ble_eq_true rfl), (Nat.le_of_ble_eq_true rfl)⟩ d_Md_commit_56 (z_pc (pc' := 59) rfl ?_)
          refine z_aload_n C d_Md_commit_59 rfl (z_pc (pc' := 60) rfl ?_)
          obtain ⟨x298, h299, hf⟩ := zbind hf
          refine z_getr C fl_Md_68 rfl h299 d_Md_commit_60 (z_pc (pc' := 63) rfl ?_)
          refine z_aload_n C d_Md_commit_63 rfl (z_pc (pc' := 64) rfl ?_)
          obtain ⟨x300, h301, hf⟩ := zbind hf
          refine z_geti C fl_Md_125 h301 d_Md_commit_64 (z_pc (pc' := 67) rfl ?_)
          refine z_aload_n C d_Md_commit_67 rfl (z_pc (pc' := 68) rfl ?_)
          refine z_aload_n C d_Md_commit_68 rfl (z_pc (pc' := 69) rfl ?_)
          obtain ⟨x302, h303, hf⟩ := zbind hf
          refine z_geti C fl_Md_134 h303 d_Md_commit_69 (z_pc (pc' := 72) rfl ?_)
          obtain ⟨x306, M305, h304, hf⟩ := zb2_inv hf
          refine z_callV C [zi x302] [zi x300, zv n0 x298] kv_Md_131 (c_Md_needsHead D n0 l h304) (e_Md_needsHead h304) ⟨(Nat.le_of_ble_eq_true rfl), (Nat.le_of_ble_eq_true rfl)⟩ (Nat.le_of_ble_eq_true rfl) ⟨(Nat.le_of_ble_eq_true rfl), (Nat.le_of_ble_eq_true rfl)⟩ d_Md_commit_72 (z_pc (pc' := 75) rfl ?_)
          obtain ⟨M307, h308, hf⟩ := zbind hf
          refine z_bast C h308 d_Md_commit_75 (z_pc (pc' := 76) rfl ?_)
          refine z_aload_n C d_Md_commit_76 rfl (z_pc (pc' := 77) rfl ?_)
          obtain ⟨x309, h310, hf⟩ := zbind hf
          refine z_getr C fl_Md_62 rfl h310 d_Md_commit_77 (z_pc (pc' := 80) rfl ?_)
          refine z_aload_n C d_Md_commit_80 rfl (z_pc (pc' := 81) rfl ?_)
          obtain ⟨x311, h312, hf⟩ := zbind hf
          refine z_geti C fl_Md_125 h312 d_Md_commit_81 (z_pc (pc' := 84) rfl ?_)
          refine z_aload_n C d_Md_commit_84 rfl (z_pc (pc' := 85) rfl ?_)
          obtain ⟨x313, h314, hf⟩ := zbind hf
          refine z_geti C fl_Md_89 h314 d_Md_commit_85 (z_pc (pc' := 88) rfl ?_)
          refine z_iconst C d_Md_commit_88 (z_pc (pc' := 89) rfl ?_)
          refine z_iadd C d_Md_commit_89 (z_pc (pc' := 90) rfl ?_)
          obtain ⟨M315, h316, hf⟩ := zbind hf
          refine z_iast C h316 d_Md_commit_90 (z_pc (pc' := 91) rfl ?_)
          refine z_aload_n C d_Md_commit_91 rfl (z_pc (pc' := 92) rfl ?_)
          obtain ⟨x317, h318, hf⟩ := zbind hf
          refine z_getr C fl_Md_65 rfl h318 d_Md_commit_92 (z_pc (pc' := 95) rfl ?_)
          refine z_aload_n C d_Md_commit_95 rfl (z_pc (pc' := 96) rfl ?_)
          obtain ⟨x319, h320, hf⟩ := zbind hf
          refine z_geti C fl_Md_125 h320 d_Md_commit_96 (z_pc (pc' := 99) rfl ?_)
          refine z_iconst C d_Md_commit_99 (z_pc (pc' := 100) rfl ?_)
          refine z_aload_n C d_Md_commit_100 rfl (z_pc (pc' := 101) rfl ?_)
          obtain ⟨x321, h322, hf⟩ := zbind hf
          refine z_geti C fl_Md_134 h322 d_Md_commit_101 (z_pc (pc' := 104) rfl ?_)
          refine z_iadd C d_Md_commit_104 (z_pc (pc' := 105) rfl ?_)
          obtain ⟨M323, h324, hf⟩ := zbind hf
          refine z_iast C h324 d_Md_commit_105 (z_pc (pc' := 106) rfl ?_)
          refine z_aload_n C d_Md_commit_106 rfl (z_pc (pc' := 107) rfl ?_)
          refine z_dupr C d_Md_commit_107 (z_pc (pc' := 108) rfl ?_)
          obtain ⟨x325, h326, hf⟩ := zbind hf
          refine z_geti C fl_Md_125 h326 d_Md_commit_108 (z_pc (pc' := 111) rfl ?_)
          refine z_iconst C d_Md_commit_111 (z_pc (pc' := 112) rfl ?_)
          refine z_iadd C d_Md_commit_112 (z_pc (pc' := 113) rfl ?_)
          obtain ⟨M327, h328, hf⟩ := zbind hf
          refine z_puti C fp_Md_125 (by decide) rfl h328 d_Md_commit_113 (z_pc (pc' := 116) rfl ?_)
          refine z_aload_n C d_Md_commit_116 rfl (z_pc (pc' := 117) rfl ?_)
          refine z_aload_n C d_Md_commit_117 rfl (z_pc (pc' := 118) rfl ?_)
          obtain ⟨x329, h330, hf⟩ := zbind hf
          refine z_geti C fl_Md_134 h330 d_Md_commit_118 (z_pc (pc' := 121) rfl ?_)
          obtain ⟨x333, M332, h331, hf⟩ := zb2_inv hf
          refine z_callV C [zi x329] [] kv_Md_150 (c_Md_record D n0 l h331) (e_Md_record h331) ⟨(Nat.le_of_ble_eq_true rfl), (Nat.le_of_ble_eq_true rfl)⟩ (Nat.le_of_ble_eq_true rfl) ⟨(Nat.le_of_ble_eq_true rfl), (Nat.le_of_ble_eq_true rfl)⟩ d_Md_commit_121 (z_pc (pc' := 124) rfl ?_)
          refine z_istore_n C d_Md_commit_124 (by decide) (z_pl (pc' := 125) (L' := [some (zv n0 a0), some (zi x333), none, none]) rfl rfl ?_)
          refine z_iconst C d_Md_commit_125 (z_pc (pc' := 126) rfl ?_)
          refine z_istore_n C d_Md_commit_126 (by decide) (z_pl (pc' := 127) (L' := [some (zv n0 a0), some (zi x333), some (zi 0), none]) rfl rfl ?_)
          refine z_sub2 (w_Md_commit_L127 C hr ?_ _ _ _ hf) (And.intro rfl (And.intro rfl (And.intro rfl trivial)))
          intro M334 hf
          refine z_aload_n C d_Md_commit_276 rfl (z_pc (pc' := 277) rfl ?_)
          obtain ⟨x335, h336, hf⟩ := zbind hf
          refine z_geti C fl_Md_134 h336 d_Md_commit_277 (z_pc (pc' := 280) rfl ?_)
          refine z_istore_n C d_Md_commit_280 (by decide) (z_pl (pc' := 281) (L' := [some (zv n0 a0), none, some (zi x335), none]) rfl rfl ?_)
          refine z_aload_n C d_Md_commit_281 rfl (z_pc (pc' := 282) rfl ?_)
          refine z_iconst C d_Md_commit_282 (z_pc (pc' := 283) rfl ?_)
          obtain ⟨M337, h338, hf⟩ := zbind hf
          refine z_puti C fp_Md_134 (by decide) rfl h338 d_Md_commit_283 (z_pc (pc' := 286) rfl ?_)
          refine z_iload_n C d_Md_commit_286 rfl (z_pc (pc' := 287) rfl ?_)
          exact z_iret C hr (Nat.le_of_ble_eq_true rfl) (Nat.le_of_ble_eq_true rfl) d_Md_commit_287 hf
      · have hf := zneg c248 hf
        refine z_bipush C d_Md_commit_37 (by decide) (z_pc (pc' := 39) rfl ?_)
        exact z_iret C hr (Nat.le_of_ble_eq_true rfl) (Nat.le_of_ble_eq_true rfl) d_Md_commit_39 hf
  · have hf := zpos c3 hf
    refine z_bipush C d_Md_commit_7 (by decide) (z_pc (pc' := 9) rfl ?_)
    exact z_iret C hr (Nat.le_of_ble_eq_true rfl) (Nat.le_of_ble_eq_true rfl) d_Md_commit_9 hf
theorem e_Md_sync {a0 : Nat} {M : zHp} {q : Int × zHp} (hf : f_Md_sync a0 M = some q) : zk M a0 = 8 := by
  unfold f_Md_sync at hf
  exact (zif hf).1
set_option maxHeartbeats 4000000 in
set_option maxRecDepth 100000 in
theorem c_Md_sync (D : va_G) (n0 : Nat) (l : Launch) {a0 : Nat} {M : zHp} {r : Int} {M' : zHp} (hf : f_Md_sync a0 M = some (r, M')) : zM D n0 l y_Md_sync b_Md_sync 2 (some .int) 0 0 0 0 [zv n0 a0] M (some (zi r)) M' := by
  refine zM.ofZ (by decide) (zcr zcn) (Nat.le_of_ble_eq_true rfl) ?_
  intro p e s m below meth c C hr hnm
  have C : zC D n0 p s m meth c b_Md_sync 2 "LayerVaultModel" := C
  refine z_eqL (L' := [some (zv n0 a0), none]) rfl ?_
  unfold f_Md_sync at hf
  have hf := (zif hf).2
  refine z_aload_n C d_Md_sync_0 rfl (z_pc (pc' := 1) rfl ?_)
  obtain ⟨x1, h2, hf⟩ := zbind hf
  refine z_geti C fl_Md_125 h2 d_Md_sync_1 (z_pc (pc' := 4) rfl ?_)
  refine z_istore_n C d_Md_sync_4 (by decide) (z_pl (pc' := 5) (L' := [some (zv n0 a0), some (zi x1)]) rfl rfl ?_)
  refine z_aload_n C d_Md_sync_5 rfl (z_pc (pc' := 6) rfl ?_)
  refine z_iconst C d_Md_sync_6 (z_pc (pc' := 7) rfl ?_)
  obtain ⟨M3, h4, hf⟩ := zbind hf
  refine z_puti C fp_Md_125 (by decide) rfl h4 d_Md_sync_7 (z_pc (pc' := 10) rfl ?_)
  refine z_iload_n C d_Md_sync_10 rfl (z_pc (pc' := 11) rfl ?_)
  exact z_iret C hr (Nat.le_of_ble_eq_true rfl) (Nat.le_of_ble_eq_true rfl) d_Md_sync_11 hf
theorem e_Md_flush {a0 : Nat} {M : zHp} {q : Int × zHp} (hf : f_Md_flush a0 M = some q) : zk M a0 = 8 := by
  unfold f_Md_flush at hf
  exact (zif hf).1
set_option maxHeartbeats 4000000 in
set_option maxRecDepth 100000 in
theorem c_Md_flush (D : va_G) (n0 : Nat) (l : Launch) {a0 : Nat} {M : zHp} {r : Int} {M' : zHp} (hf : f_Md_flush a0 M = some (r, M')) : zM D n0 l y_Md_flush b_Md_flush 2 (some .int) 5 110 0 0 [zv n0 a0] M (some (zi r)) M' := by
  refine zM.ofZ (by decide) (zcr zcn) (Nat.le_of_ble_eq_true rfl) ?_
  intro p e s m below meth c C hr hnm
  have C : zC D n0 p s m meth c b_Md_flush 2 "LayerVaultModel" := C
  refine z_eqL (L' := [some (zv n0 a0), none]) rfl ?_
  unfold f_Md_flush at hf
  have hf := (zif hf).2
  refine z_aload_n C d_Md_flush_0 rfl (z_pc (pc' := 1) rfl ?_)
  refine z_iconst C d_Md_flush_1 (z_pc (pc' := 2) rfl ?_)
  obtain ⟨x3, M2, h1, hf⟩ := zb2_inv hf
  refine z_callV C [zi (-1)] [] kv_Md_109 (c_Md_size D n0 l h1) (e_Md_size h1) ⟨(Nat.le_of_ble_eq_true rfl), (Nat.le_of_ble_eq_true rfl)⟩ (Nat.le_of_ble_eq_true rfl) ⟨(Nat.le_of_ble_eq_true rfl), (Nat.le_of_ble_eq_true rfl)⟩ d_Md_flush_2 (z_pc (pc' := 5) rfl ?_)
  refine z_istore_n C d_Md_flush_5 (by decide) (z_pl (pc' := 6) (L' := [some (zv n0 a0), some (zi x3)]) rfl rfl ?_)
  refine z_aload_n C d_Md_flush_6 rfl (z_pc (pc' := 7) rfl ?_)
  obtain ⟨M5, h4, hf⟩ := zbind hf
  refine z_callV C [] [] kv_Md_147 (c_Md_flushAll D n0 l h4) (e_Md_flushAll h4) ⟨(Nat.le_of_ble_eq_true rfl), (Nat.le_of_ble_eq_true rfl)⟩ (Nat.le_of_ble_eq_true rfl) ⟨(Nat.le_of_ble_eq_true rfl), (Nat.le_of_ble_eq_true rfl)⟩ d_Md_flush_7 (z_pc (pc' := 10) rfl ?_)
  refine z_iload_n C d_Md_flush_10 rfl (z_pc (pc' := 11) rfl ?_)
  exact z_iret C hr (Nat.le_of_ble_eq_true rfl) (Nat.le_of_ble_eq_true rfl) d_Md_flush_11 hf
theorem e_Md_merge {a0 : Nat} {a1 : Int} {M : zHp} {q : Int × zHp} (hf : f_Md_merge a0 a1 M = some q) : zk M a0 = 8 := by
  unfold f_Md_merge at hf
  exact (zif hf).1
set_option maxHeartbeats 4000000 in
set_option maxRecDepth 100000 in
theorem c_Md_merge (D : va_G) (n0 : Nat) (l : Launch) {a0 : Nat} {a1 : Int} {M : zHp} {r : Int} {M' : zHp} (hf : f_Md_merge a0 a1 M = some (r, M')) : zM D n0 l y_Md_merge b_Md_merge 2 (some .int) 4 89 0 0 [zv n0 a0, zi a1] M (some (zi r)) M' := by
  refine zM.ofZ (by decide) (zcr (zci zcn)) (Nat.le_of_ble_eq_true rfl) ?_
  intro p e s m below meth c C hr hnm
  have C : zC D n0 p s m meth c b_Md_merge 2 "LayerVaultModel" := C
  refine z_eqL (L' := [some (zv n0 a0), some (zi a1)]) rfl ?_
  unfold f_Md_merge at hf
  have hf := (zif hf).2
  refine z_iload_n C d_Md_merge_0 rfl (z_pc (pc' := 1) rfl ?_)
  refine z_if_lt (tgt := 9) C d_Md_merge_1 (by decide) (fun c1 => ?_) (fun c1 => z_pc (pc' := 4) rfl ?_)
  · have hf := zpos c1 hf
    refine z_iconst C d_Md_merge_9 (z_pc (pc' := 10) rfl ?_)
    exact z_iret C hr (Nat.le_of_ble_eq_true rfl) (Nat.le_of_ble_eq_true rfl) d_Md_merge_10 hf
  · have hf := zneg c1 hf
    refine z_iload_n C d_Md_merge_4 rfl (z_pc (pc' := 5) rfl ?_)
    refine z_iconst C d_Md_merge_5 (z_pc (pc' := 6) rfl ?_)
    refine z_icmp_le (tgt := 11) C d_Md_merge_6 (by decide) (fun c2 => ?_) (fun c2 => z_pc (pc' := 9) rfl ?_)
    · have hf := zpos c2 hf
      refine z_aload_n C d_Md_merge_11 rfl (z_pc (pc' := 12) rfl ?_)
      refine z_iload_n C d_Md_merge_12 rfl (z_pc (pc' := 13) rfl ?_)
      obtain ⟨x5, M4, h3, hf⟩ := zb2_inv hf
      refine z_callV C [zi a1] [] kv_Md_109 (c_Md_size D n0 l h3) (e_Md_size h3) ⟨(Nat.le_of_ble_eq_true rfl), (Nat.le_of_ble_eq_true rfl)⟩ (Nat.le_of_ble_eq_true rfl) ⟨(Nat.le_of_ble_eq_true rfl), (Nat.le_of_ble_eq_true rfl)⟩ d_Md_merge_13 (z_pc (pc' := 16) rfl ?_)
      refine z_if_ne (tgt := 24) C d_Md_merge_16 (by decide) (fun c6 => ?_) (fun c6 => z_pc (pc' := 19) rfl ?_)
      · have hf := zneg c6 hf
        refine z_aload_n C d_Md_merge_24 rfl (z_pc (pc' := 25) rfl ?_)
        refine z_iload_n C d_Md_merge_25 rfl (z_pc (pc' := 26) rfl ?_)
        obtain ⟨x9, M8, h7, hf⟩ := zb2_inv hf
        refine z_callV C [zi a1] [] kv_Md_119 (c_Md_mergeOf D n0 l h7) (e_Md_mergeOf h7) ⟨(Nat.le_of_ble_eq_true rfl), (Nat.le_of_ble_eq_true rfl)⟩ (Nat.le_of_ble_eq_true rfl) ⟨(Nat.le_of_ble_eq_true rfl), (Nat.le_of_ble_eq_true rfl)⟩ d_Md_merge_26 (z_pc (pc' := 29) rfl ?_)
        exact z_iret C hr (Nat.le_of_ble_eq_true rfl) (Nat.le_of_ble_eq_true rfl) d_Md_merge_29 hf
      · have hf := zpos c6 hf
        refine z_bipush C d_Md_merge_19 (by decide) (z_pc (pc' := 21) rfl ?_)
        refine z_goto (tgt := 29) C d_Md_merge_21 (by decide) ?_
        exact z_iret C hr (Nat.le_of_ble_eq_true rfl) (Nat.le_of_ble_eq_true rfl) d_Md_merge_29 hf
    · have hf := zneg c2 hf
      refine z_iconst C d_Md_merge_9 (z_pc (pc' := 10) rfl ?_)
      exact z_iret C hr (Nat.le_of_ble_eq_true rfl) (Nat.le_of_ble_eq_true rfl) d_Md_merge_10 hf
theorem e_Md_isLive {a0 : Nat} {a1 : Int} {a2 : Int} {M : zHp} {q : Int × zHp} (hf : f_Md_isLive a0 a1 a2 M = some q) : zk M a0 = 8 := by
  unfold f_Md_isLive at hf
  exact (zif hf).1
set_option maxHeartbeats 4000000 in
set_option maxRecDepth 100000 in
theorem c_Md_isLive (D : va_G) (n0 : Nat) (l : Launch) {a0 : Nat} {a1 : Int} {a2 : Int} {M : zHp} {r : Int} {M' : zHp} (hf : f_Md_isLive a0 a1 a2 M = some (r, M')) : zM D n0 l y_Md_isLive b_Md_isLive 3 (some .boolean) 0 0 0 0 [zv n0 a0, zi a1, zi a2] M (some (zi r)) M' := by
  refine zM.ofZ (by decide) (zcr (zci (zci zcn))) (Nat.le_of_ble_eq_true rfl) ?_
  intro p e s m below meth c C hr hnm
  have C : zC D n0 p s m meth c b_Md_isLive 3 "LayerVaultModel" := C
  refine z_eqL (L' := [some (zv n0 a0), some (zi a1), some (zi a2)]) rfl ?_
  unfold f_Md_isLive at hf
  have hf := (zif hf).2
  refine z_aload_n C d_Md_isLive_0 rfl (z_pc (pc' := 1) rfl ?_)
  obtain ⟨x1, h2, hf⟩ := zbind hf
  refine z_getr C fl_Md_26 rfl h2 d_Md_isLive_1 (z_pc (pc' := 4) rfl ?_)
  refine z_iload_n C d_Md_isLive_4 rfl (z_pc (pc' := 5) rfl ?_)
  obtain ⟨x3, h4, hf⟩ := zbind hf
  refine z_iald C h4 d_Md_isLive_5 (z_pc (pc' := 6) rfl ?_)
  refine z_bipush C d_Md_isLive_6 (by decide) (z_pc (pc' := 8) rfl ?_)
  refine z_icmp_eq (tgt := 34) C d_Md_isLive_8 (by decide) (fun c5 => ?_) (fun c5 => z_pc (pc' := 11) rfl ?_)
  · have hf := zpos c5 hf
    refine z_iconst C d_Md_isLive_34 (z_pc (pc' := 35) rfl ?_)
    exact z_zret C hr rfl (Nat.le_of_ble_eq_true rfl) (Nat.le_of_ble_eq_true rfl) d_Md_isLive_35 hf
  · have hf := zneg c5 hf
    refine z_aload_n C d_Md_isLive_11 rfl (z_pc (pc' := 12) rfl ?_)
    obtain ⟨x6, h7, hf⟩ := zbind hf
    refine z_getr C fl_Md_19 rfl h7 d_Md_isLive_12 (z_pc (pc' := 15) rfl ?_)
    refine z_iload_n C d_Md_isLive_15 rfl (z_pc (pc' := 16) rfl ?_)
    obtain ⟨x8, h9, hf⟩ := zbind hf
    refine z_bald C h9 d_Md_isLive_16 (z_pc (pc' := 17) rfl ?_)
    refine z_if_ne (tgt := 34) C d_Md_isLive_17 (by decide) (fun c10 => ?_) (fun c10 => z_pc (pc' := 20) rfl ?_)
    · have hf := zneg c10 hf
      refine z_iconst C d_Md_isLive_34 (z_pc (pc' := 35) rfl ?_)
      exact z_zret C hr rfl (Nat.le_of_ble_eq_true rfl) (Nat.le_of_ble_eq_true rfl) d_Md_isLive_35 hf
    · have hf := zpos c10 hf
      refine z_aload_n C d_Md_isLive_20 rfl (z_pc (pc' := 21) rfl ?_)
      obtain ⟨x11, h12, hf⟩ := zbind hf
      refine z_getr C fl_Md_32 rfl h12 d_Md_isLive_21 (z_pc (pc' := 24) rfl ?_)
      refine z_iload_n C d_Md_isLive_24 rfl (z_pc (pc' := 25) rfl ?_)
      obtain ⟨x13, h14, hf⟩ := zbind hf
      refine z_iald C h14 d_Md_isLive_25 (z_pc (pc' := 26) rfl ?_)
      refine z_iload_n C d_Md_isLive_26 rfl (z_pc (pc' := 27) rfl ?_)
      refine z_icmp_ne (tgt := 34) C d_Md_isLive_27 (by decide) (fun c15 => ?_) (fun c15 => z_pc (pc' := 30) rfl ?_)
      · have hf := zneg c15 hf
        refine z_iconst C d_Md_isLive_34 (z_pc (pc' := 35) rfl ?_)
        exact z_zret C hr rfl (Nat.le_of_ble_eq_true rfl) (Nat.le_of_ble_eq_true rfl) d_Md_isLive_35 hf
      · have hf := zpos c15 hf
        refine z_iconst C d_Md_isLive_30 (z_pc (pc' := 31) rfl ?_)
        refine z_goto (tgt := 35) C d_Md_isLive_31 (by decide) ?_
        exact z_zret C hr rfl (Nat.le_of_ble_eq_true rfl) (Nat.le_of_ble_eq_true rfl) d_Md_isLive_35 hf
set_option maxHeartbeats 4000000 in
set_option maxRecDepth 100000 in
theorem w_Md_liveIn_L4 {D : va_G} {n0 : Nat} {l : Launch} {p : Program} {e : Env} {s : State} {m : MethodId} {args : Array Value} {below : List Frame} {meth : Method} {c : Code} {a0 : Nat} {a1 : Int} {r : Int} {M' : zHp} {κ : Int → zHp → Option (Int × zHp)} (C : zC D n0 p s m meth c b_Md_liveIn 4 "LayerVaultModel") (hr : meth.sig.returnType = (some .int))
    (hκ : ∀ (u2 : Int) (M1 : zHp), κ u2 M1 = some (r, M') → zZ D n0 p l e { frames := 1, cells := 0, slots := 0, locals := 22 } s m args below meth c 4 0 0 (MQ below (zQc D n0 (some (zi r)) M') args s 0 0 (fun q => n0 ≤ q)) 30 [none, none, some (zi u2), none] [] M1) :
    ∀ (n : Nat) (v2 : Int) (v3 : Int) (M : zHp), f_Md_liveIn_L4 κ a0 a1 n v2 v3 M = some (r, M') → zZ D n0 p l e { frames := 1, cells := 0, slots := 0, locals := 22 } s m args below meth c 4 0 0 (MQ below (zQc D n0 (some (zi r)) M') args s 0 0 (fun q => n0 ≤ q)) 4 [some (zv n0 a0), some (zi a1), some (zi v2), some (zi v3)] [] M := by
  intro n
  induction n with
  | zero =>
    intro v2 v3 M hf
    exact absurd hf (by unfold f_Md_liveIn_L4; simp)
  | succ n ih =>
    intro v2 v3 M hf
    unfold f_Md_liveIn_L4 at hf
    refine z_iload_n C d_Md_liveIn_4 rfl (z_pc (pc' := 5) rfl ?_)
    refine z_aload_n C d_Md_liveIn_5 rfl (z_pc (pc' := 6) rfl ?_)
    obtain ⟨x1, h2, hf⟩ := zbind hf
    refine z_geti C fl_Md_75 h2 d_Md_liveIn_6 (z_pc (pc' := 9) rfl ?_)
    refine z_icmp_ge (tgt := 30) C d_Md_liveIn_9 (by decide) (fun c3 => ?_) (fun c3 => z_pc (pc' := 12) rfl ?_)
    · have hf := zpos c3 hf
      exact z_sub2 (hκ _ _ hf) (And.intro rfl trivial)
    · have hf := zneg c3 hf
      refine z_aload_n C d_Md_liveIn_12 rfl (z_pc (pc' := 13) rfl ?_)
      refine z_iload_n C d_Md_liveIn_13 rfl (z_pc (pc' := 14) rfl ?_)
      refine z_iload_n C d_Md_liveIn_14 rfl (z_pc (pc' := 15) rfl ?_)
      obtain ⟨x6, M5, h4, hf⟩ := zb2_inv hf
      refine z_callV C [zi v3, zi a1] [] kv_Md_153 (c_Md_isLive D n0 l h4) (e_Md_isLive h4) ⟨(Nat.le_of_ble_eq_true rfl), (Nat.le_of_ble_eq_true rfl)⟩ (Nat.le_of_ble_eq_true rfl) ⟨(Nat.le_of_ble_eq_true rfl), (Nat.le_of_ble_eq_true rfl)⟩ d_Md_liveIn_15 (z_pc (pc' := 18) rfl ?_)
      refine z_if_eq (tgt := 24) C d_Md_liveIn_18 (by decide) (fun c7 => ?_) (fun c7 => z_pc (pc' := 21) rfl ?_)
      · have hf := zpos c7 hf
        refine z_iinc C d_Md_liveIn_24 rfl (by decide) (z_pl (pc' := 27) (L' := [some (zv n0 a0), some (zi a1), some (zi v2), some (zi (zadd v3 1))]) rfl rfl ?_)
        refine z_goto (tgt := 4) C d_Md_liveIn_27 (by decide) ?_
        exact z_sub2 (ih _ _ _ hf) (And.intro rfl (And.intro rfl (And.intro rfl (And.intro rfl trivial))))
      · have hf := zneg c7 hf
        refine z_iinc C d_Md_liveIn_21 rfl (by decide) (z_pl (pc' := 24) (L' := [some (zv n0 a0), some (zi a1), some (zi (zadd v2 1)), some (zi v3)]) rfl rfl ?_)
        refine z_iinc C d_Md_liveIn_24 rfl (by decide) (z_pl (pc' := 27) (L' := [some (zv n0 a0), some (zi a1), some (zi (zadd v2 1)), some (zi (zadd v3 1))]) rfl rfl ?_)
        refine z_goto (tgt := 4) C d_Md_liveIn_27 (by decide) ?_
        exact z_sub2 (ih _ _ _ hf) (And.intro rfl (And.intro rfl (And.intro rfl (And.intro rfl trivial))))
theorem e_Md_liveIn {a0 : Nat} {a1 : Int} {M : zHp} {q : Int × zHp} (hf : f_Md_liveIn a0 a1 M = some q) : zk M a0 = 8 := by
  unfold f_Md_liveIn at hf
  exact (zif hf).1
set_option maxHeartbeats 4000000 in
set_option maxRecDepth 100000 in
theorem c_Md_liveIn (D : va_G) (n0 : Nat) (l : Launch) {a0 : Nat} {a1 : Int} {M : zHp} {r : Int} {M' : zHp} (hf : f_Md_liveIn a0 a1 M = some (r, M')) : zM D n0 l y_Md_liveIn b_Md_liveIn 4 (some .int) 1 22 0 0 [zv n0 a0, zi a1] M (some (zi r)) M' := by
  refine zM.ofZ (by decide) (zcr (zci zcn)) (Nat.le_of_ble_eq_true rfl) ?_
  intro p e s m below meth c C hr hnm
  have C : zC D n0 p s m meth c b_Md_liveIn 4 "LayerVaultModel" := C
  refine z_eqL (L' := [some (zv n0 a0), some (zi a1), none, none]) rfl ?_
  unfold f_Md_liveIn at hf
  have hf := (zif hf).2
  refine z_iconst C d_Md_liveIn_0 (z_pc (pc' := 1) rfl ?_)
  refine z_istore_n C d_Md_liveIn_1 (by decide) (z_pl (pc' := 2) (L' := [some (zv n0 a0), some (zi a1), some (zi 0), none]) rfl rfl ?_)
  refine z_iconst C d_Md_liveIn_2 (z_pc (pc' := 3) rfl ?_)
  refine z_istore_n C d_Md_liveIn_3 (by decide) (z_pl (pc' := 4) (L' := [some (zv n0 a0), some (zi a1), some (zi 0), some (zi 0)]) rfl rfl ?_)
  refine z_sub2 (w_Md_liveIn_L4 C hr ?_ _ _ _ _ hf) (And.intro rfl (And.intro rfl (And.intro rfl (And.intro rfl trivial))))
  intro v8 M9 hf
  refine z_iload_n C d_Md_liveIn_30 rfl (z_pc (pc' := 31) rfl ?_)
  exact z_iret C hr (Nat.le_of_ble_eq_true rfl) (Nat.le_of_ble_eq_true rfl) d_Md_liveIn_31 hf
set_option maxHeartbeats 4000000 in
set_option maxRecDepth 100000 in
theorem w_Md_nextLive_L4 {D : va_G} {n0 : Nat} {l : Launch} {p : Program} {e : Env} {s : State} {m : MethodId} {args : Array Value} {below : List Frame} {meth : Method} {c : Code} {a0 : Nat} {r : Int} {M' : zHp} {κ : Int → zHp → Option (Int × zHp)} (C : zC D n0 p s m meth c b_Md_nextLive 3 "LayerVaultModel") (hr : meth.sig.returnType = (some .int))
    (hκ : ∀ (u1 : Int) (M1 : zHp), κ u1 M1 = some (r, M') → zZ D n0 p l e { frames := 1, cells := 0, slots := 0, locals := 22 } s m args below meth c 3 0 0 (MQ below (zQc D n0 (some (zi r)) M') args s 0 0 (fun q => n0 ≤ q)) 51 [none, some (zi u1), none] [] M1) :
    ∀ (n : Nat) (v1 : Int) (v2 : Int) (M : zHp), f_Md_nextLive_L4 κ a0 n v1 v2 M = some (r, M') → zZ D n0 p l e { frames := 1, cells := 0, slots := 0, locals := 22 } s m args below meth c 3 0 0 (MQ below (zQc D n0 (some (zi r)) M') args s 0 0 (fun q => n0 ≤ q)) 4 [some (zv n0 a0), some (zi v1), some (zi v2)] [] M := by
  intro n
  induction n with
  | zero =>
    intro v1 v2 M hf
    exact absurd hf (by unfold f_Md_nextLive_L4; simp)
  | succ n ih =>
    intro v1 v2 M hf
    unfold f_Md_nextLive_L4 at hf
    refine z_iload_n C d_Md_nextLive_4 rfl (z_pc (pc' := 5) rfl ?_)
    refine z_aload_n C d_Md_nextLive_5 rfl (z_pc (pc' := 6) rfl ?_)
    obtain ⟨x1, h2, hf⟩ := zbind hf
    refine z_geti C fl_Md_75 h2 d_Md_nextLive_6 (z_pc (pc' := 9) rfl ?_)
    refine z_icmp_ge (tgt := 51) C d_Md_nextLive_9 (by decide) (fun c3 => ?_) (fun c3 => z_pc (pc' := 12) rfl ?_)
    · have hf := zpos c3 hf
      exact z_sub2 (hκ _ _ hf) (And.intro rfl trivial)
    · have hf := zneg c3 hf
      refine z_aload_n C d_Md_nextLive_12 rfl (z_pc (pc' := 13) rfl ?_)
      refine z_iload_n C d_Md_nextLive_13 rfl (z_pc (pc' := 14) rfl ?_)
      refine z_aload_n C d_Md_nextLive_14 rfl (z_pc (pc' := 15) rfl ?_)
      obtain ⟨x4, h5, hf⟩ := zbind hf
      refine z_geti C fl_Md_144 h5 d_Md_nextLive_15 (z_pc (pc' := 18) rfl ?_)
      obtain ⟨x8, M7, h6, hf⟩ := zb2_inv hf
      refine z_callV C [zi v2, zi x4] [] kv_Md_153 (c_Md_isLive D n0 l h6) (e_Md_isLive h6) ⟨(Nat.le_of_ble_eq_true rfl), (Nat.le_of_ble_eq_true rfl)⟩ (Nat.le_of_ble_eq_true rfl) ⟨(Nat.le_of_ble_eq_true rfl), (Nat.le_of_ble_eq_true rfl)⟩ d_Md_nextLive_18 (z_pc (pc' := 21) rfl ?_)
      refine z_if_eq (tgt := 45) C d_Md_nextLive_21 (by decide) (fun c9 => ?_) (fun c9 => z_pc (pc' := 24) rfl ?_)
      · have hf := zpos c9 hf
        refine z_iinc C d_Md_nextLive_45 rfl (by decide) (z_pl (pc' := 48) (L' := [some (zv n0 a0), some (zi v1), some (zi (zadd v2 1))]) rfl rfl ?_)
        refine z_goto (tgt := 4) C d_Md_nextLive_48 (by decide) ?_
        exact z_sub2 (ih _ _ _ hf) (And.intro rfl (And.intro rfl (And.intro rfl trivial)))
      · have hf := zneg c9 hf
        refine z_iload_n C d_Md_nextLive_24 rfl (z_pc (pc' := 25) rfl ?_)
        refine z_if_lt (tgt := 43) C d_Md_nextLive_25 (by decide) (fun c10 => ?_) (fun c10 => z_pc (pc' := 28) rfl ?_)
        · have hf := zpos c10 hf
          refine z_iload_n C d_Md_nextLive_43 rfl (z_pc (pc' := 44) rfl ?_)
          refine z_istore_n C d_Md_nextLive_44 (by decide) (z_pl (pc' := 45) (L' := [some (zv n0 a0), some (zi v2), some (zi v2)]) rfl rfl ?_)
          refine z_iinc C d_Md_nextLive_45 rfl (by decide) (z_pl (pc' := 48) (L' := [some (zv n0 a0), some (zi v2), some (zi (zadd v2 1))]) rfl rfl ?_)
          refine z_goto (tgt := 4) C d_Md_nextLive_48 (by decide) ?_
          exact z_sub2 (ih _ _ _ hf) (And.intro rfl (And.intro rfl (And.intro rfl trivial)))
        · have hf := zneg c10 hf
          refine z_aload_n C d_Md_nextLive_28 rfl (z_pc (pc' := 29) rfl ?_)
          obtain ⟨x11, h12, hf⟩ := zbind hf
          refine z_getr C fl_Md_35 rfl h12 d_Md_nextLive_29 (z_pc (pc' := 32) rfl ?_)
          refine z_iload_n C d_Md_nextLive_32 rfl (z_pc (pc' := 33) rfl ?_)
          obtain ⟨x13, h14, hf⟩ := zbind hf
          refine z_iald C h14 d_Md_nextLive_33 (z_pc (pc' := 34) rfl ?_)
          refine z_aload_n C d_Md_nextLive_34 rfl (z_pc (pc' := 35) rfl ?_)
          obtain ⟨x15, h16, hf⟩ := zbind hf
          refine z_getr C fl_Md_35 rfl h16 d_Md_nextLive_35 (z_pc (pc' := 38) rfl ?_)
          refine z_iload_n C d_Md_nextLive_38 rfl (z_pc (pc' := 39) rfl ?_)
          obtain ⟨x17, h18, hf⟩ := zbind hf
          refine z_iald C h18 d_Md_nextLive_39 (z_pc (pc' := 40) rfl ?_)
          refine z_icmp_ge (tgt := 45) C d_Md_nextLive_40 (by decide) (fun c19 => ?_) (fun c19 => z_pc (pc' := 43) rfl ?_)
          · have hf := zpos c19 hf
            refine z_iinc C d_Md_nextLive_45 rfl (by decide) (z_pl (pc' := 48) (L' := [some (zv n0 a0), some (zi v1), some (zi (zadd v2 1))]) rfl rfl ?_)
            refine z_goto (tgt := 4) C d_Md_nextLive_48 (by decide) ?_
            exact z_sub2 (ih _ _ _ hf) (And.intro rfl (And.intro rfl (And.intro rfl trivial)))
          · have hf := zneg c19 hf
            refine z_iload_n C d_Md_nextLive_43 rfl (z_pc (pc' := 44) rfl ?_)
            refine z_istore_n C d_Md_nextLive_44 (by decide) (z_pl (pc' := 45) (L' := [some (zv n0 a0), some (zi v2), some (zi v2)]) rfl rfl ?_)
            refine z_iinc C d_Md_nextLive_45 rfl (by decide) (z_pl (pc' := 48) (L' := [some (zv n0 a0), some (zi v2), some (zi (zadd v2 1))]) rfl rfl ?_)
            refine z_goto (tgt := 4) C d_Md_nextLive_48 (by decide) ?_
            exact z_sub2 (ih _ _ _ hf) (And.intro rfl (And.intro rfl (And.intro rfl trivial)))
theorem e_Md_nextLive {a0 : Nat} {M : zHp} {q : Int × zHp} (hf : f_Md_nextLive a0 M = some q) : zk M a0 = 8 := by
  unfold f_Md_nextLive at hf
  exact (zif hf).1
set_option maxHeartbeats 4000000 in
set_option maxRecDepth 100000 in
theorem c_Md_nextLive (D : va_G) (n0 : Nat) (l : Launch) {a0 : Nat} {M : zHp} {r : Int} {M' : zHp} (hf : f_Md_nextLive a0 M = some (r, M')) : zM D n0 l y_Md_nextLive b_Md_nextLive 3 (some .int) 1 22 0 0 [zv n0 a0] M (some (zi r)) M' := by
  refine zM.ofZ (by decide) (zcr zcn) (Nat.le_of_ble_eq_true rfl) ?_
  intro p e s m below meth c C hr hnm
  have C : zC D n0 p s m meth c b_Md_nextLive 3 "LayerVaultModel" := C
  refine z_eqL (L' := [some (zv n0 a0), none, none]) rfl ?_
  unfold f_Md_nextLive at hf
  have hf := (zif hf).2
  refine z_iconst C d_Md_nextLive_0 (z_pc (pc' := 1) rfl ?_)
  refine z_istore_n C d_Md_nextLive_1 (by decide) (z_pl (pc' := 2) (L' := [some (zv n0 a0), some (zi (-1)), none]) rfl rfl ?_)
  refine z_iconst C d_Md_nextLive_2 (z_pc (pc' := 3) rfl ?_)
  refine z_istore_n C d_Md_nextLive_3 (by decide) (z_pl (pc' := 4) (L' := [some (zv n0 a0), some (zi (-1)), some (zi 0)]) rfl rfl ?_)
  refine z_sub2 (w_Md_nextLive_L4 C hr ?_ _ _ _ _ hf) (And.intro rfl (And.intro rfl (And.intro rfl trivial)))
  intro v20 M21 hf
  refine z_iload_n C d_Md_nextLive_51 rfl (z_pc (pc' := 52) rfl ?_)
  exact z_iret C hr (Nat.le_of_ble_eq_true rfl) (Nat.le_of_ble_eq_true rfl) d_Md_nextLive_52 hf
set_option maxHeartbeats 4000000 in
set_option maxRecDepth 100000 in
theorem w_Md_headsFor_L18 {D : va_G} {n0 : Nat} {l : Launch} {p : Program} {e : Env} {s : State} {m : MethodId} {args : Array Value} {below : List Frame} {meth : Method} {c : Code}  {r : Int} {M' : zHp} {κ : Int → zHp → Option (Int × zHp)} (C : zC D n0 p s m meth c b_Md_headsFor 6 "LayerVaultModel") (hr : meth.sig.returnType = (some .int))
    (hκ : ∀ (u2 : Int) (M1 : zHp), κ u2 M1 = some (r, M') → zZ D n0 p l e { frames := 0, cells := 0, slots := 0, locals := 0 } s m args below meth c 6 0 0 (MQ below (zQc D n0 (some (zi r)) M') args s 0 0 (fun q => n0 ≤ q)) 70 [none, none, some (zi u2), none, none, none] [] M1) :
    ∀ (n : Nat) (v2 : Int) (v3 : Int) (v4 : Int) (M : zHp), f_Md_headsFor_L18 κ n v2 v3 v4 M = some (r, M') → zZ D n0 p l e { frames := 0, cells := 0, slots := 0, locals := 0 } s m args below meth c 6 0 0 (MQ below (zQc D n0 (some (zi r)) M') args s 0 0 (fun q => n0 ≤ q)) 18 [none, none, some (zi v2), some (zi v3), some (zi v4), none] [] M := by
  intro n
  induction n with
  | zero =>
    intro v2 v3 v4 M hf
    exact absurd hf (by unfold f_Md_headsFor_L18; simp)
  | succ n ih =>
    intro v2 v3 v4 M hf
    unfold f_Md_headsFor_L18 at hf
    refine z_iload C d_Md_headsFor_18 rfl (z_pc (pc' := 20) rfl ?_)
    refine z_if_le (tgt := 70) C d_Md_headsFor_20 (by decide) (fun c7 => ?_) (fun c7 => z_pc (pc' := 23) rfl ?_)
    · have hf := zpos c7 hf
      exact z_sub2 (hκ _ _ hf) (And.intro rfl trivial)
    · have hf := zneg c7 hf
      refine z_iconst C d_Md_headsFor_23 (z_pc (pc' := 24) rfl ?_)
      refine z_iload C d_Md_headsFor_24 rfl (z_pc (pc' := 26) rfl ?_)
      refine z_bipush C d_Md_headsFor_26 (by decide) (z_pc (pc' := 28) rfl ?_)
      refine z_icmp_ge (tgt := 36) C d_Md_headsFor_28 (by decide) (fun c8 => ?_) (fun c8 => z_pc (pc' := 31) rfl ?_)
      · have hf := zpos c8 hf
        refine z_bipush C d_Md_headsFor_36 (by decide) (z_pc (pc' := 38) rfl ?_)
        refine z_iadd C d_Md_headsFor_38 (z_pc (pc' := 39) rfl ?_)
        refine z_istore C d_Md_headsFor_39 (by decide) (z_pl (pc' := 41) (L' := [none, none, some (zi v2), some (zi v3), some (zi v4), some (zi (zadd 1 6))]) rfl rfl ?_)
        refine z_iload_n C d_Md_headsFor_41 rfl (z_pc (pc' := 42) rfl ?_)
        refine z_iload C d_Md_headsFor_42 rfl (z_pc (pc' := 44) rfl ?_)
        refine z_iadd C d_Md_headsFor_44 (z_pc (pc' := 45) rfl ?_)
        refine z_bipush C d_Md_headsFor_45 (by decide) (z_pc (pc' := 47) rfl ?_)
        refine z_icmp_le (tgt := 55) C d_Md_headsFor_47 (by decide) (fun c9 => ?_) (fun c9 => z_pc (pc' := 50) rfl ?_)
        · have hf := zpos c9 hf
          refine z_iload_n C d_Md_headsFor_55 rfl (z_pc (pc' := 56) rfl ?_)
          refine z_iload C d_Md_headsFor_56 rfl (z_pc (pc' := 58) rfl ?_)
          refine z_iadd C d_Md_headsFor_58 (z_pc (pc' := 59) rfl ?_)
          refine z_istore_n C d_Md_headsFor_59 (by decide) (z_pl (pc' := 60) (L' := [none, none, some (zi v2), some (zi (zadd v3 (zadd 1 6))), some (zi v4), some (zi (zadd 1 6))]) rfl rfl ?_)
          refine z_iload C d_Md_headsFor_60 rfl (z_pc (pc' := 62) rfl ?_)
          refine z_bipush C d_Md_headsFor_62 (by decide) (z_pc (pc' := 64) rfl ?_)
          refine z_isub C d_Md_headsFor_64 (z_pc (pc' := 65) rfl ?_)
          refine z_istore C d_Md_headsFor_65 (by decide) (z_pl (pc' := 67) (L' := [none, none, some (zi v2), some (zi (zadd v3 (zadd 1 6))), some (zi (zsub v4 6)), some (zi (zadd 1 6))]) rfl rfl ?_)
          refine z_goto (tgt := 18) C d_Md_headsFor_67 (by decide) ?_
          exact z_sub2 (ih _ _ _ _ hf) (And.intro rfl (And.intro rfl (And.intro rfl trivial)))
        · have hf := zneg c9 hf
          refine z_iinc C d_Md_headsFor_50 rfl (by decide) (z_pl (pc' := 53) (L' := [none, none, some (zi (zadd v2 1)), some (zi v3), some (zi v4), some (zi (zadd 1 6))]) rfl rfl ?_)
          refine z_iconst C d_Md_headsFor_53 (z_pc (pc' := 54) rfl ?_)
          refine z_istore_n C d_Md_headsFor_54 (by decide) (z_pl (pc' := 55) (L' := [none, none, some (zi (zadd v2 1)), some (zi 0), some (zi v4), some (zi (zadd 1 6))]) rfl rfl ?_)
          refine z_iload_n C d_Md_headsFor_55 rfl (z_pc (pc' := 56) rfl ?_)
          refine z_iload C d_Md_headsFor_56 rfl (z_pc (pc' := 58) rfl ?_)
          refine z_iadd C d_Md_headsFor_58 (z_pc (pc' := 59) rfl ?_)
          refine z_istore_n C d_Md_headsFor_59 (by decide) (z_pl (pc' := 60) (L' := [none, none, some (zi (zadd v2 1)), some (zi (zadd 0 (zadd 1 6))), some (zi v4), some (zi (zadd 1 6))]) rfl rfl ?_)
          refine z_iload C d_Md_headsFor_60 rfl (z_pc (pc' := 62) rfl ?_)
          refine z_bipush C d_Md_headsFor_62 (by decide) (z_pc (pc' := 64) rfl ?_)
          refine z_isub C d_Md_headsFor_64 (z_pc (pc' := 65) rfl ?_)
          refine z_istore C d_Md_headsFor_65 (by decide) (z_pl (pc' := 67) (L' := [none, none, some (zi (zadd v2 1)), some (zi (zadd 0 (zadd 1 6))), some (zi (zsub v4 6)), some (zi (zadd 1 6))]) rfl rfl ?_)
          refine z_goto (tgt := 18) C d_Md_headsFor_67 (by decide) ?_
          exact z_sub2 (ih _ _ _ _ hf) (And.intro rfl (And.intro rfl (And.intro rfl trivial)))
      · have hf := zneg c8 hf
        refine z_iload C d_Md_headsFor_31 rfl (z_pc (pc' := 33) rfl ?_)
        refine z_goto (tgt := 38) C d_Md_headsFor_33 (by decide) ?_
        refine z_iadd C d_Md_headsFor_38 (z_pc (pc' := 39) rfl ?_)
        refine z_istore C d_Md_headsFor_39 (by decide) (z_pl (pc' := 41) (L' := [none, none, some (zi v2), some (zi v3), some (zi v4), some (zi (zadd 1 v4))]) rfl rfl ?_)
        refine z_iload_n C d_Md_headsFor_41 rfl (z_pc (pc' := 42) rfl ?_)
        refine z_iload C d_Md_headsFor_42 rfl (z_pc (pc' := 44) rfl ?_)
        refine z_iadd C d_Md_headsFor_44 (z_pc (pc' := 45) rfl ?_)
        refine z_bipush C d_Md_headsFor_45 (by decide) (z_pc (pc' := 47) rfl ?_)
        refine z_icmp_le (tgt := 55) C d_Md_headsFor_47 (by decide) (fun c10 => ?_) (fun c10 => z_pc (pc' := 50) rfl ?_)
        · have hf := zpos c10 hf
          refine z_iload_n C d_Md_headsFor_55 rfl (z_pc (pc' := 56) rfl ?_)
          refine z_iload C d_Md_headsFor_56 rfl (z_pc (pc' := 58) rfl ?_)
          refine z_iadd C d_Md_headsFor_58 (z_pc (pc' := 59) rfl ?_)
          refine z_istore_n C d_Md_headsFor_59 (by decide) (z_pl (pc' := 60) (L' := [none, none, some (zi v2), some (zi (zadd v3 (zadd 1 v4))), some (zi v4), some (zi (zadd 1 v4))]) rfl rfl ?_)
          refine z_iload C d_Md_headsFor_60 rfl (z_pc (pc' := 62) rfl ?_)
          refine z_bipush C d_Md_headsFor_62 (by decide) (z_pc (pc' := 64) rfl ?_)
          refine z_isub C d_Md_headsFor_64 (z_pc (pc' := 65) rfl ?_)
          refine z_istore C d_Md_headsFor_65 (by decide) (z_pl (pc' := 67) (L' := [none, none, some (zi v2), some (zi (zadd v3 (zadd 1 v4))), some (zi (zsub v4 6)), some (zi (zadd 1 v4))]) rfl rfl ?_)
          refine z_goto (tgt := 18) C d_Md_headsFor_67 (by decide) ?_
          exact z_sub2 (ih _ _ _ _ hf) (And.intro rfl (And.intro rfl (And.intro rfl trivial)))
        · have hf := zneg c10 hf
          refine z_iinc C d_Md_headsFor_50 rfl (by decide) (z_pl (pc' := 53) (L' := [none, none, some (zi (zadd v2 1)), some (zi v3), some (zi v4), some (zi (zadd 1 v4))]) rfl rfl ?_)
          refine z_iconst C d_Md_headsFor_53 (z_pc (pc' := 54) rfl ?_)
          refine z_istore_n C d_Md_headsFor_54 (by decide) (z_pl (pc' := 55) (L' := [none, none, some (zi (zadd v2 1)), some (zi 0), some (zi v4), some (zi (zadd 1 v4))]) rfl rfl ?_)
          refine z_iload_n C d_Md_headsFor_55 rfl (z_pc (pc' := 56) rfl ?_)
          refine z_iload C d_Md_headsFor_56 rfl (z_pc (pc' := 58) rfl ?_)
          refine z_iadd C d_Md_headsFor_58 (z_pc (pc' := 59) rfl ?_)
          refine z_istore_n C d_Md_headsFor_59 (by decide) (z_pl (pc' := 60) (L' := [none, none, some (zi (zadd v2 1)), some (zi (zadd 0 (zadd 1 v4))), some (zi v4), some (zi (zadd 1 v4))]) rfl rfl ?_)
          refine z_iload C d_Md_headsFor_60 rfl (z_pc (pc' := 62) rfl ?_)
          refine z_bipush C d_Md_headsFor_62 (by decide) (z_pc (pc' := 64) rfl ?_)
          refine z_isub C d_Md_headsFor_64 (z_pc (pc' := 65) rfl ?_)
          refine z_istore C d_Md_headsFor_65 (by decide) (z_pl (pc' := 67) (L' := [none, none, some (zi (zadd v2 1)), some (zi (zadd 0 (zadd 1 v4))), some (zi (zsub v4 6)), some (zi (zadd 1 v4))]) rfl rfl ?_)
          refine z_goto (tgt := 18) C d_Md_headsFor_67 (by decide) ?_
          exact z_sub2 (ih _ _ _ _ hf) (And.intro rfl (And.intro rfl (And.intro rfl trivial)))
theorem e_Md_headsFor {a0 : Nat} {a1 : Int} {M : zHp} {q : Int × zHp} (hf : f_Md_headsFor a0 a1 M = some q) : zk M a0 = 8 := by
  unfold f_Md_headsFor at hf
  exact (zif hf).1
set_option maxHeartbeats 4000000 in
set_option maxRecDepth 100000 in
theorem c_Md_headsFor (D : va_G) (n0 : Nat) (l : Launch) {a0 : Nat} {a1 : Int} {M : zHp} {r : Int} {M' : zHp} (hf : f_Md_headsFor a0 a1 M = some (r, M')) : zM D n0 l y_Md_headsFor b_Md_headsFor 6 (some .int) 0 0 0 0 [zv n0 a0, zi a1] M (some (zi r)) M' := by
  refine zM.ofZ (by decide) (zcr (zci zcn)) (Nat.le_of_ble_eq_true rfl) ?_
  intro p e s m below meth c C hr hnm
  have C : zC D n0 p s m meth c b_Md_headsFor 6 "LayerVaultModel" := C
  refine z_eqL (L' := [some (zv n0 a0), some (zi a1), none, none, none, none]) rfl ?_
  unfold f_Md_headsFor at hf
  have hf := (zif hf).2
  refine z_iconst C d_Md_headsFor_0 (z_pc (pc' := 1) rfl ?_)
  refine z_istore_n C d_Md_headsFor_1 (by decide) (z_pl (pc' := 2) (L' := [some (zv n0 a0), some (zi a1), some (zi 0), none, none, none]) rfl rfl ?_)
  refine z_aload_n C d_Md_headsFor_2 rfl (z_pc (pc' := 3) rfl ?_)
  obtain ⟨x1, h2, hf⟩ := zbind hf
  refine z_getr C fl_Md_59 rfl h2 d_Md_headsFor_3 (z_pc (pc' := 6) rfl ?_)
  refine z_aload_n C d_Md_headsFor_6 rfl (z_pc (pc' := 7) rfl ?_)
  obtain ⟨x3, h4, hf⟩ := zbind hf
  refine z_geti C fl_Md_128 h4 d_Md_headsFor_7 (z_pc (pc' := 10) rfl ?_)
  refine z_bipush C d_Md_headsFor_10 (by decide) (z_pc (pc' := 12) rfl ?_)
  refine z_irem C (by decide) d_Md_headsFor_12 (z_pc (pc' := 13) rfl ?_)
  obtain ⟨x5, h6, hf⟩ := zbind hf
  refine z_iald C h6 d_Md_headsFor_13 (z_pc (pc' := 14) rfl ?_)
  refine z_istore_n C d_Md_headsFor_14 (by decide) (z_pl (pc' := 15) (L' := [some (zv n0 a0), some (zi a1), some (zi 0), some (zi x5), none, none]) rfl rfl ?_)
  refine z_iload_n C d_Md_headsFor_15 rfl (z_pc (pc' := 16) rfl ?_)
  refine z_istore C d_Md_headsFor_16 (by decide) (z_pl (pc' := 18) (L' := [some (zv n0 a0), some (zi a1), some (zi 0), some (zi x5), some (zi a1), none]) rfl rfl ?_)
  refine z_sub2 (w_Md_headsFor_L18 C hr ?_ _ _ _ _ _ hf) (And.intro rfl (And.intro rfl (And.intro rfl trivial)))
  intro v11 M12 hf
  refine z_iload_n C d_Md_headsFor_70 rfl (z_pc (pc' := 71) rfl ?_)
  exact z_iret C hr (Nat.le_of_ble_eq_true rfl) (Nat.le_of_ble_eq_true rfl) d_Md_headsFor_71 hf
set_option maxHeartbeats 4000000 in
set_option maxRecDepth 100000 in
theorem w_Md_collect_L81 {D : va_G} {n0 : Nat} {l : Launch} {p : Program} {e : Env} {s : State} {m : MethodId} {args : Array Value} {below : List Frame} {meth : Method} {c : Code} {a0 : Nat} {a1 : Int} {a2 : Int} {a3 : Int} {a4 : Int} {r : Int} {M' : zHp} {κ : zHp → Option (Int × zHp)} (C : zC D n0 p s m meth c b_Md_collect 7 "LayerVaultModel") (hr : meth.sig.returnType = (some .int))
    (hκ : ∀ (M1 : zHp), κ M1 = some (r, M') → zZ D n0 p l e { frames := 5, cells := 0, slots := 0, locals := 110 } s m args below meth c 7 0 0 (MQ below (zQc D n0 (some (zi r)) M') args s 0 0 (fun q => n0 ≤ q)) 122 [some (zv n0 a0), some (zi a1), some (zi a2), none, none, none, none] [] M1) :
    ∀ (n : Nat) (v5 : Int) (M : zHp), f_Md_collect_L81 κ a0 a3 a4 n v5 M = some (r, M') → zZ D n0 p l e { frames := 5, cells := 0, slots := 0, locals := 110 } s m args below meth c 7 0 0 (MQ below (zQc D n0 (some (zi r)) M') args s 0 0 (fun q => n0 ≤ q)) 81 [some (zv n0 a0), some (zi a1), some (zi a2), some (zi a3), some (zi a4), some (zi v5), none] [] M := by
  intro n
  induction n with
  | zero =>
    intro v5 M hf
    exact absurd hf (by unfold f_Md_collect_L81; simp)
  | succ n ih =>
    intro v5 M hf
    unfold f_Md_collect_L81 at hf
    refine z_iload C d_Md_collect_81 rfl (z_pc (pc' := 83) rfl ?_)
    refine z_iload_n C d_Md_collect_83 rfl (z_pc (pc' := 84) rfl ?_)
    refine z_icmp_ge (tgt := 122) C d_Md_collect_84 (by decide) (fun c26 => ?_) (fun c26 => z_pc (pc' := 87) rfl ?_)
    · have hf := zpos c26 hf
      exact z_sub2 (hκ _ hf) (And.intro rfl (And.intro rfl (And.intro rfl trivial)))
    · have hf := zneg c26 hf
      refine z_aload_n C d_Md_collect_87 rfl (z_pc (pc' := 88) rfl ?_)
      obtain ⟨x29, M28, h27, hf⟩ := zb2_inv hf
      refine z_callV C [] [] kv_Md_162 (c_Md_nextLive D n0 l h27) (e_Md_nextLive h27) ⟨(Nat.le_of_ble_eq_true rfl), (Nat.le_of_ble_eq_true rfl)⟩ (Nat.le_of_ble_eq_true rfl) ⟨(Nat.le_of_ble_eq_true rfl), (Nat.le_of_ble_eq_true rfl)⟩ d_Md_collect_88 (z_pc (pc' := 91) rfl ?_)
      refine z_istore C d_Md_collect_91 (by decide) (z_pl (pc' := 93) (L' := [some (zv n0 a0), some (zi a1), some (zi a2), some (zi a3), some (zi a4), some (zi v5), some (zi x29)]) rfl rfl ?_)
      refine z_aload_n C d_Md_collect_93 rfl (z_pc (pc' := 94) rfl ?_)
      obtain ⟨x30, h31, hf⟩ := zbind hf
      refine z_getr C fl_Md_32 rfl h31 d_Md_collect_94 (z_pc (pc' := 97) rfl ?_)
      refine z_iload C d_Md_collect_97 rfl (z_pc (pc' := 99) rfl ?_)
      refine z_aload_n C d_Md_collect_99 rfl (z_pc (pc' := 100) rfl ?_)
      obtain ⟨x32, h33, hf⟩ := zbind hf
      refine z_geti C fl_Md_128 h33 d_Md_collect_100 (z_pc (pc' := 103) rfl ?_)
      obtain ⟨M34, h35, hf⟩ := zbind hf
      refine z_iast C h35 d_Md_collect_103 (z_pc (pc' := 104) rfl ?_)
      refine z_aload_n C d_Md_collect_104 rfl (z_pc (pc' := 105) rfl ?_)
      obtain ⟨x36, h37, hf⟩ := zbind hf
      refine z_getr C fl_Md_35 rfl h37 d_Md_collect_105 (z_pc (pc' := 108) rfl ?_)
      refine z_iload C d_Md_collect_108 rfl (z_pc (pc' := 110) rfl ?_)
      refine z_iload C d_Md_collect_110 rfl (z_pc (pc' := 112) rfl ?_)
      refine z_iload C d_Md_collect_112 rfl (z_pc (pc' := 114) rfl ?_)
      refine z_iadd C d_Md_collect_114 (z_pc (pc' := 115) rfl ?_)
      obtain ⟨M38, h39, hf⟩ := zbind hf
      refine z_iast C h39 d_Md_collect_115 (z_pc (pc' := 116) rfl ?_)
      refine z_iinc C d_Md_collect_116 rfl (by decide) (z_pl (pc' := 119) (L' := [some (zv n0 a0), some (zi a1), some (zi a2), some (zi a3), some (zi a4), some (zi (zadd v5 1)), some (zi x29)]) rfl rfl ?_)
      refine z_goto (tgt := 81) C d_Md_collect_119 (by decide) ?_
      exact z_sub2 (ih _ _ hf) (And.intro rfl (And.intro rfl (And.intro rfl (And.intro rfl (And.intro rfl (And.intro rfl trivial))))))
set_option maxHeartbeats 4000000 in
set_option maxRecDepth 100000 in
theorem w_Md_collect_L54 {D : va_G} {n0 : Nat} {l : Launch} {p : Program} {e : Env} {s : State} {m : MethodId} {args : Array Value} {below : List Frame} {meth : Method} {c : Code} {a0 : Nat} {a1 : Int} {r : Int} {M' : zHp} {κ : zHp → Option (Int × zHp)} (C : zC D n0 p s m meth c b_Md_collect 7 "LayerVaultModel") (hr : meth.sig.returnType = (some .int))
    (hκ : ∀ (M1 : zHp), κ M1 = some (r, M') → zZ D n0 p l e { frames := 5, cells := 0, slots := 0, locals := 110 } s m args below meth c 7 0 0 (MQ below (zQc D n0 (some (zi r)) M') args s 0 0 (fun q => n0 ≤ q)) 130 [some (zv n0 a0), some (zi a1), none, none, none, none, none] [] M1) :
    ∀ (n : Nat) (v2 : Int) (M : zHp), f_Md_collect_L54 κ a0 n v2 M = some (r, M') → zZ D n0 p l e { frames := 5, cells := 0, slots := 0, locals := 110 } s m args below meth c 7 0 0 (MQ below (zQc D n0 (some (zi r)) M') args s 0 0 (fun q => n0 ≤ q)) 54 [some (zv n0 a0), some (zi a1), some (zi v2), none, none, none, none] [] M := by
  intro n
  induction n with
  | zero =>
    intro v2 M hf
    exact absurd hf (by unfold f_Md_collect_L54; simp)
  | succ n ih =>
    intro v2 M hf
    unfold f_Md_collect_L54 at hf
    refine z_iload_n C d_Md_collect_54 rfl (z_pc (pc' := 55) rfl ?_)
    refine z_if_le (tgt := 130) C d_Md_collect_55 (by decide) (fun c21 => ?_) (fun c21 => z_pc (pc' := 58) rfl ?_)
    · have hf := zpos c21 hf
      exact z_sub2 (hκ _ hf) (And.intro rfl (And.intro rfl trivial))
    · have hf := zneg c21 hf
      refine z_iload_n C d_Md_collect_58 rfl (z_pc (pc' := 59) rfl ?_)
      refine z_bipush C d_Md_collect_59 (by decide) (z_pc (pc' := 61) rfl ?_)
      refine z_icmp_ge (tgt := 68) C d_Md_collect_61 (by decide) (fun c22 => ?_) (fun c22 => z_pc (pc' := 64) rfl ?_)
      · have hf := zpos c22 hf
        refine z_bipush C d_Md_collect_68 (by decide) (z_pc (pc' := 70) rfl ?_)
        refine z_istore_n C d_Md_collect_70 (by decide) (z_pl (pc' := 71) (L' := [some (zv n0 a0), some (zi a1), some (zi v2), some (zi 6), none, none, none]) rfl rfl ?_)
        refine z_aload_n C d_Md_collect_71 rfl (z_pc (pc' := 72) rfl ?_)
        refine z_iload_n C d_Md_collect_72 rfl (z_pc (pc' := 73) rfl ?_)
        obtain ⟨x25, M24, h23, hf⟩ := zb2_inv hf
        refine z_callV C [zi 6] [] kv_Md_150 (c_Md_record D n0 l h23) (e_Md_record h23) ⟨(Nat.le_of_ble_eq_true rfl), (Nat.le_of_ble_eq_true rfl)⟩ (Nat.le_of_ble_eq_true rfl) ⟨(Nat.le_of_ble_eq_true rfl), (Nat.le_of_ble_eq_true rfl)⟩ d_Md_collect_73 (z_pc (pc' := 76) rfl ?_)
        refine z_istore C d_Md_collect_76 (by decide) (z_pl (pc' := 78) (L' := [some (zv n0 a0), some (zi a1), some (zi v2), some (zi 6), some (zi x25), none, none]) rfl rfl ?_)
        refine z_iconst C d_Md_collect_78 (z_pc (pc' := 79) rfl ?_)
        refine z_istore C d_Md_collect_79 (by decide) (z_pl (pc' := 81) (L' := [some (zv n0 a0), some (zi a1), some (zi v2), some (zi 6), some (zi x25), some (zi 0), none]) rfl rfl ?_)
        refine z_sub2 (w_Md_collect_L81 C hr ?_ _ _ _ hf) (And.intro rfl (And.intro rfl (And.intro rfl (And.intro rfl (And.intro rfl (And.intro rfl trivial))))))
        intro M40 hf
        refine z_iload_n C d_Md_collect_122 rfl (z_pc (pc' := 123) rfl ?_)
        refine z_bipush C d_Md_collect_123 (by decide) (z_pc (pc' := 125) rfl ?_)
        refine z_isub C d_Md_collect_125 (z_pc (pc' := 126) rfl ?_)
        refine z_istore_n C d_Md_collect_126 (by decide) (z_pl (pc' := 127) (L' := [some (zv n0 a0), some (zi a1), some (zi (zsub v2 6)), none, none, none, none]) rfl rfl ?_)
        refine z_goto (tgt := 54) C d_Md_collect_127 (by decide) ?_
        exact z_sub2 (ih _ _ hf) (And.intro rfl (And.intro rfl (And.intro rfl trivial)))
      · have hf := zneg c22 hf
        refine z_iload_n C d_Md_collect_64 rfl (z_pc (pc' := 65) rfl ?_)
        refine z_goto (tgt := 70) C d_Md_collect_65 (by decide) ?_
        refine z_istore_n C d_Md_collect_70 (by decide) (z_pl (pc' := 71) (L' := [some (zv n0 a0), some (zi a1), some (zi v2), some (zi v2), none, none, none]) rfl rfl ?_)
        refine z_aload_n C d_Md_collect_71 rfl (z_pc (pc' := 72) rfl ?_)
        refine z_iload_n C d_Md_collect_72 rfl (z_pc (pc' := 73) rfl ?_)
        obtain ⟨x43, M42, h41, hf⟩ := zb2_inv hf
        refine z_callV C [zi v2] [] kv_Md_150 (c_Md_record D n0 l h41) (e_Md_record h41) ⟨(Nat.le_of_ble_eq_true rfl), (Nat.le_of_ble_eq_true rfl)⟩ (Nat.le_of_ble_eq_true rfl) ⟨(Nat.le_of_ble_eq_true rfl), (Nat.le_of_ble_eq_true rfl)⟩ d_Md_collect_73 (z_pc (pc' := 76) rfl ?_)
        refine z_istore C d_Md_collect_76 (by decide) (z_pl (pc' := 78) (L' := [some (zv n0 a0), some (zi a1), some (zi v2), some (zi v2), some (zi x43), none, none]) rfl rfl ?_)
        refine z_iconst C d_Md_collect_78 (z_pc (pc' := 79) rfl ?_)
        refine z_istore C d_Md_collect_79 (by decide) (z_pl (pc' := 81) (L' := [some (zv n0 a0), some (zi a1), some (zi v2), some (zi v2), some (zi x43), some (zi 0), none]) rfl rfl ?_)
        refine z_sub2 (w_Md_collect_L81 C hr ?_ _ _ _ hf) (And.intro rfl (And.intro rfl (And.intro rfl (And.intro rfl (And.intro rfl (And.intro rfl trivial))))))
        intro M44 hf
        refine z_iload_n C d_Md_collect_122 rfl (z_pc (pc' := 123) rfl ?_)
        refine z_bipush C d_Md_collect_123 (by decide) (z_pc (pc' := 125) rfl ?_)
        refine z_isub C d_Md_collect_125 (z_pc (pc' := 126) rfl ?_)
        refine z_istore_n C d_Md_collect_126 (by decide) (z_pl (pc' := 127) (L' := [some (zv n0 a0), some (zi a1), some (zi (zsub v2 6)), none, none, none, none]) rfl rfl ?_)
        refine z_goto (tgt := 54) C d_Md_collect_127 (by decide) ?_
        exact z_sub2 (ih _ _ hf) (And.intro rfl (And.intro rfl (And.intro rfl trivial)))
theorem e_Md_collect {a0 : Nat} {M : zHp} {q : Int × zHp} (hf : f_Md_collect a0 M = some q) : zk M a0 = 8 := by
  unfold f_Md_collect at hf
  exact (zif hf).1
set_option maxHeartbeats 4000000 in
set_option maxRecDepth 100000 in
theorem c_Md_collect (D : va_G) (n0 : Nat) (l : Launch) {a0 : Nat} {M : zHp} {r : Int} {M' : zHp} (hf : f_Md_collect a0 M = some (r, M')) : zM D n0 l y_Md_collect b_Md_collect 7 (some .int) 5 110 0 0 [zv n0 a0] M (some (zi r)) M' := by
  refine zM.ofZ (by decide) (zcr zcn) (Nat.le_of_ble_eq_true rfl) ?_
  intro p e s m below meth c C hr hnm
  have C : zC D n0 p s m meth c b_Md_collect 7 "LayerVaultModel" := C
  refine z_eqL (L' := [some (zv n0 a0), none, none, none, none, none, none]) rfl ?_
  unfold f_Md_collect at hf
  have hf := (zif hf).2
  refine z_aload_n C d_Md_collect_0 rfl (z_pc (pc' := 1) rfl ?_)
  obtain ⟨x1, h2, hf⟩ := zbind hf
  refine z_geti C fl_Md_144 h2 d_Md_collect_1 (z_pc (pc' := 4) rfl ?_)
  refine z_aload_n C d_Md_collect_4 rfl (z_pc (pc' := 5) rfl ?_)
  obtain ⟨x3, h4, hf⟩ := zbind hf
  refine z_geti C fl_Md_128 h4 d_Md_collect_5 (z_pc (pc' := 8) rfl ?_)
  refine z_icmp_ne (tgt := 14) C d_Md_collect_8 (by decide) (fun c5 => ?_) (fun c5 => z_pc (pc' := 11) rfl ?_)
  · have hf := zneg c5 hf
    refine z_aload_n C d_Md_collect_14 rfl (z_pc (pc' := 15) rfl ?_)
    obtain ⟨M7, h6, hf⟩ := zbind hf
    refine z_callV C [] [] kv_Md_147 (c_Md_flushAll D n0 l h6) (e_Md_flushAll h6) ⟨(Nat.le_of_ble_eq_true rfl), (Nat.le_of_ble_eq_true rfl)⟩ (Nat.le_of_ble_eq_true rfl) ⟨(Nat.le_of_ble_eq_true rfl), (Nat.le_of_ble_eq_true rfl)⟩ d_Md_collect_15 (z_pc (pc' := 18) rfl ?_)
    refine z_aload_n C d_Md_collect_18 rfl (z_pc (pc' := 19) rfl ?_)
    refine z_aload_n C d_Md_collect_19 rfl (z_pc (pc' := 20) rfl ?_)
    obtain ⟨x8, h9, hf⟩ := zbind hf
    refine z_geti C fl_Md_144 h9 d_Md_collect_20 (z_pc (pc' := 23) rfl ?_)
    obtain ⟨x12, M11, h10, hf⟩ := zb2_inv hf
    refine z_callV C [zi x8] [] kv_Md_156 (c_Md_liveIn D n0 l h10) (e_Md_liveIn h10) ⟨(Nat.le_of_ble_eq_true rfl), (Nat.le_of_ble_eq_true rfl)⟩ (Nat.le_of_ble_eq_true rfl) ⟨(Nat.le_of_ble_eq_true rfl), (Nat.le_of_ble_eq_true rfl)⟩ d_Md_collect_23 (z_pc (pc' := 26) rfl ?_)
    refine z_istore_n C d_Md_collect_26 (by decide) (z_pl (pc' := 27) (L' := [some (zv n0 a0), some (zi x12), none, none, none, none, none]) rfl rfl ?_)
    refine z_aload_n C d_Md_collect_27 rfl (z_pc (pc' := 28) rfl ?_)
    obtain ⟨x13, h14, hf⟩ := zbind hf
    refine z_geti C fl_Md_128 h14 d_Md_collect_28 (z_pc (pc' := 31) rfl ?_)
    refine z_aload_n C d_Md_collect_31 rfl (z_pc (pc' := 32) rfl ?_)
    obtain ⟨x15, h16, hf⟩ := zbind hf
    refine z_geti C fl_Md_144 h16 d_Md_collect_32 (z_pc (pc' := 35) rfl ?_)
    refine z_isub C d_Md_collect_35 (z_pc (pc' := 36) rfl ?_)
    refine z_iconst C d_Md_collect_36 (z_pc (pc' := 37) rfl ?_)
    refine z_iadd C d_Md_collect_37 (z_pc (pc' := 38) rfl ?_)
    refine z_aload_n C d_Md_collect_38 rfl (z_pc (pc' := 39) rfl ?_)
    refine z_iload_n C d_Md_collect_39 rfl (z_pc (pc' := 40) rfl ?_)
    obtain ⟨x19, M18, h17, hf⟩ := zb2_inv hf
    refine z_callV C [zi x12] [zi (zadd (zsub x13 x15) 1)] kv_Md_159 (c_Md_headsFor D n0 l h17) (e_Md_headsFor h17) ⟨(Nat.le_of_ble_eq_true rfl), (Nat.le_of_ble_eq_true rfl)⟩ (Nat.le_of_ble_eq_true rfl) ⟨(Nat.le_of_ble_eq_true rfl), (Nat.le_of_ble_eq_true rfl)⟩ d_Md_collect_40 (z_pc (pc' := 43) rfl ?_)
    refine z_iadd C d_Md_collect_43 (z_pc (pc' := 44) rfl ?_)
    refine z_bipush C d_Md_collect_44 (by decide) (z_pc (pc' := 46) rfl ?_)
    refine z_icmp_le (tgt := 52) C d_Md_collect_46 (by decide) (fun c20 => ?_) (fun c20 => z_pc (pc' := 49) rfl ?_)
    · have hf := zpos c20 hf
      refine z_iload_n C d_Md_collect_52 rfl (z_pc (pc' := 53) rfl ?_)
      refine z_istore_n C d_Md_collect_53 (by decide) (z_pl (pc' := 54) (L' := [some (zv n0 a0), some (zi x12), some (zi x12), none, none, none, none]) rfl rfl ?_)
      refine z_sub2 (w_Md_collect_L54 C hr ?_ _ _ _ hf) (And.intro rfl (And.intro rfl (And.intro rfl trivial)))
      intro M45 hf
      refine z_aload_n C d_Md_collect_130 rfl (z_pc (pc' := 131) rfl ?_)
      refine z_iconst C d_Md_collect_131 (z_pc (pc' := 132) rfl ?_)
      obtain ⟨M46, h47, hf⟩ := zbind hf
      refine z_puti C fp_Md_125 (by decide) rfl h47 d_Md_collect_132 (z_pc (pc' := 135) rfl ?_)
      refine z_aload_n C d_Md_collect_135 rfl (z_pc (pc' := 136) rfl ?_)
      refine z_dupr C d_Md_collect_136 (z_pc (pc' := 137) rfl ?_)
      obtain ⟨x48, h49, hf⟩ := zbind hf
      refine z_geti C fl_Md_144 h49 d_Md_collect_137 (z_pc (pc' := 140) rfl ?_)
      refine z_iconst C d_Md_collect_140 (z_pc (pc' := 141) rfl ?_)
      refine z_iadd C d_Md_collect_141 (z_pc (pc' := 142) rfl ?_)
      obtain ⟨M50, h51, hf⟩ := zbind hf
      refine z_puti C fp_Md_144 (by decide) rfl h51 d_Md_collect_142 (z_pc (pc' := 145) rfl ?_)
      refine z_iload_n C d_Md_collect_145 rfl (z_pc (pc' := 146) rfl ?_)
      exact z_iret C hr (Nat.le_of_ble_eq_true rfl) (Nat.le_of_ble_eq_true rfl) d_Md_collect_146 hf
    · have hf := zneg c20 hf
      refine z_bipush C d_Md_collect_49 (by decide) (z_pc (pc' := 51) rfl ?_)
      exact z_iret C hr (Nat.le_of_ble_eq_true rfl) (Nat.le_of_ble_eq_true rfl) d_Md_collect_51 hf
  · have hf := zpos c5 hf
    refine z_bipush C d_Md_collect_11 (by decide) (z_pc (pc' := 13) rfl ?_)
    exact z_iret C hr (Nat.le_of_ble_eq_true rfl) (Nat.le_of_ble_eq_true rfl) d_Md_collect_13 hf
set_option maxHeartbeats 4000000 in
set_option maxRecDepth 100000 in
theorem w_Md_take_L2 {D : va_G} {n0 : Nat} {l : Launch} {p : Program} {e : Env} {s : State} {m : MethodId} {args : Array Value} {below : List Frame} {meth : Method} {c : Code} {a0 : Nat} {r : Int} {M' : zHp} {κ : zHp → Option (Int × zHp)} (C : zC D n0 p s m meth c b_Md_take 2 "LayerVaultModel") (hr : meth.sig.returnType = (some .int))
    (hκ : ∀ (M1 : zHp), κ M1 = some (r, M') → zZ D n0 p l e { frames := 0, cells := 0, slots := 0, locals := 0 } s m args below meth c 2 0 0 (MQ below (zQc D n0 (some (zi r)) M') args s 0 0 (fun q => n0 ≤ q)) 41 [none, none] [] M1) :
    ∀ (n : Nat) (v1 : Int) (M : zHp), f_Md_take_L2 κ a0 n v1 M = some (r, M') → zZ D n0 p l e { frames := 0, cells := 0, slots := 0, locals := 0 } s m args below meth c 2 0 0 (MQ below (zQc D n0 (some (zi r)) M') args s 0 0 (fun q => n0 ≤ q)) 2 [some (zv n0 a0), some (zi v1)] [] M := by
  intro n
  induction n with
  | zero =>
    intro v1 M hf
    exact absurd hf (by unfold f_Md_take_L2; simp)
  | succ n ih =>
    intro v1 M hf
    unfold f_Md_take_L2 at hf
    refine z_iload_n C d_Md_take_2 rfl (z_pc (pc' := 3) rfl ?_)
    refine z_iconst C d_Md_take_3 (z_pc (pc' := 4) rfl ?_)
    refine z_icmp_ge (tgt := 41) C d_Md_take_4 (by decide) (fun c1 => ?_) (fun c1 => z_pc (pc' := 7) rfl ?_)
    · have hf := zpos c1 hf
      exact z_sub2 (hκ _ hf) trivial
    · have hf := zneg c1 hf
      refine z_aload_n C d_Md_take_7 rfl (z_pc (pc' := 8) rfl ?_)
      obtain ⟨x2, h3, hf⟩ := zbind hf
      refine z_getr C fl_Md_53 rfl h3 d_Md_take_8 (z_pc (pc' := 11) rfl ?_)
      refine z_iload_n C d_Md_take_11 rfl (z_pc (pc' := 12) rfl ?_)
      obtain ⟨x4, h5, hf⟩ := zbind hf
      refine z_bald C h5 d_Md_take_12 (z_pc (pc' := 13) rfl ?_)
      refine z_if_ne (tgt := 35) C d_Md_take_13 (by decide) (fun c6 => ?_) (fun c6 => z_pc (pc' := 16) rfl ?_)
      · have hf := zneg c6 hf
        refine z_iinc C d_Md_take_35 rfl (by decide) (z_pl (pc' := 38) (L' := [some (zv n0 a0), some (zi (zadd v1 1))]) rfl rfl ?_)
        refine z_goto (tgt := 2) C d_Md_take_38 (by decide) ?_
        exact z_sub2 (ih _ _ hf) (And.intro rfl (And.intro rfl trivial))
      · have hf := zpos c6 hf
        refine z_aload_n C d_Md_take_16 rfl (z_pc (pc' := 17) rfl ?_)
        obtain ⟨x7, h8, hf⟩ := zbind hf
        refine z_getr C fl_Md_53 rfl h8 d_Md_take_17 (z_pc (pc' := 20) rfl ?_)
        refine z_iload_n C d_Md_take_20 rfl (z_pc (pc' := 21) rfl ?_)
        refine z_iconst C d_Md_take_21 (z_pc (pc' := 22) rfl ?_)
        obtain ⟨M9, h10, hf⟩ := zbind hf
        refine z_bast C h10 d_Md_take_22 (z_pc (pc' := 23) rfl ?_)
        refine z_aload_n C d_Md_take_23 rfl (z_pc (pc' := 24) rfl ?_)
        obtain ⟨x11, h12, hf⟩ := zbind hf
        refine z_getr C fl_Md_56 rfl h12 d_Md_take_24 (z_pc (pc' := 27) rfl ?_)
        refine z_iload_n C d_Md_take_27 rfl (z_pc (pc' := 28) rfl ?_)
        refine z_aload_n C d_Md_take_28 rfl (z_pc (pc' := 29) rfl ?_)
        obtain ⟨x13, h14, hf⟩ := zbind hf
        refine z_geti C fl_Md_89 h14 d_Md_take_29 (z_pc (pc' := 32) rfl ?_)
        obtain ⟨M15, h16, hf⟩ := zbind hf
        refine z_iast C h16 d_Md_take_32 (z_pc (pc' := 33) rfl ?_)
        refine z_iload_n C d_Md_take_33 rfl (z_pc (pc' := 34) rfl ?_)
        exact z_iret C hr (Nat.le_of_ble_eq_true rfl) (Nat.le_of_ble_eq_true rfl) d_Md_take_34 hf
theorem e_Md_take {a0 : Nat} {M : zHp} {q : Int × zHp} (hf : f_Md_take a0 M = some q) : zk M a0 = 8 := by
  unfold f_Md_take at hf
  exact (zif hf).1
set_option maxHeartbeats 4000000 in
set_option maxRecDepth 100000 in
theorem c_Md_take (D : va_G) (n0 : Nat) (l : Launch) {a0 : Nat} {M : zHp} {r : Int} {M' : zHp} (hf : f_Md_take a0 M = some (r, M')) : zM D n0 l y_Md_take b_Md_take 2 (some .int) 0 0 0 0 [zv n0 a0] M (some (zi r)) M' := by
  refine zM.ofZ (by decide) (zcr zcn) (Nat.le_of_ble_eq_true rfl) ?_
  intro p e s m below meth c C hr hnm
  have C : zC D n0 p s m meth c b_Md_take 2 "LayerVaultModel" := C
  refine z_eqL (L' := [some (zv n0 a0), none]) rfl ?_
  unfold f_Md_take at hf
  have hf := (zif hf).2
  refine z_iconst C d_Md_take_0 (z_pc (pc' := 1) rfl ?_)
  refine z_istore_n C d_Md_take_1 (by decide) (z_pl (pc' := 2) (L' := [some (zv n0 a0), some (zi 0)]) rfl rfl ?_)
  refine z_sub2 (w_Md_take_L2 C hr ?_ _ _ _ hf) (And.intro rfl (And.intro rfl trivial))
  intro M17 hf
  refine z_bipush C d_Md_take_41 (by decide) (z_pc (pc' := 43) rfl ?_)
  exact z_iret C hr (Nat.le_of_ble_eq_true rfl) (Nat.le_of_ble_eq_true rfl) d_Md_take_43 hf
theorem e_Md_release {a0 : Nat} {a1 : Int} {M : zHp} {q : Int × zHp} (hf : f_Md_release a0 a1 M = some q) : zk M a0 = 8 := by
  unfold f_Md_release at hf
  exact (zif hf).1
set_option maxHeartbeats 4000000 in
set_option maxRecDepth 100000 in
theorem c_Md_release (D : va_G) (n0 : Nat) (l : Launch) {a0 : Nat} {a1 : Int} {M : zHp} {r : Int} {M' : zHp} (hf : f_Md_release a0 a1 M = some (r, M')) : zM D n0 l y_Md_release b_Md_release 3 (some .boolean) 0 0 0 0 [zv n0 a0, zi a1] M (some (zi r)) M' := by
  refine zM.ofZ (by decide) (zcr (zci zcn)) (Nat.le_of_ble_eq_true rfl) ?_
  intro p e s m below meth c C hr hnm
  have C : zC D n0 p s m meth c b_Md_release 3 "LayerVaultModel" := C
  refine z_eqL (L' := [some (zv n0 a0), some (zi a1), none]) rfl ?_
  unfold f_Md_release at hf
  have hf := (zif hf).2
  refine z_iload_n C d_Md_release_0 rfl (z_pc (pc' := 1) rfl ?_)
  refine z_if_lt (tgt := 9) C d_Md_release_1 (by decide) (fun c1 => ?_) (fun c1 => z_pc (pc' := 4) rfl ?_)
  · have hf := zpos c1 hf
    refine z_iconst C d_Md_release_9 (z_pc (pc' := 10) rfl ?_)
    exact z_zret C hr rfl (Nat.le_of_ble_eq_true rfl) (Nat.le_of_ble_eq_true rfl) d_Md_release_10 hf
  · have hf := zneg c1 hf
    refine z_iload_n C d_Md_release_4 rfl (z_pc (pc' := 5) rfl ?_)
    refine z_iconst C d_Md_release_5 (z_pc (pc' := 6) rfl ?_)
    refine z_icmp_le (tgt := 11) C d_Md_release_6 (by decide) (fun c2 => ?_) (fun c2 => z_pc (pc' := 9) rfl ?_)
    · have hf := zpos c2 hf
      refine z_aload_n C d_Md_release_11 rfl (z_pc (pc' := 12) rfl ?_)
      obtain ⟨x3, h4, hf⟩ := zbind hf
      refine z_getr C fl_Md_53 rfl h4 d_Md_release_12 (z_pc (pc' := 15) rfl ?_)
      refine z_iload_n C d_Md_release_15 rfl (z_pc (pc' := 16) rfl ?_)
      obtain ⟨x5, h6, hf⟩ := zbind hf
      refine z_bald C h6 d_Md_release_16 (z_pc (pc' := 17) rfl ?_)
      refine z_istore_n C d_Md_release_17 (by decide) (z_pl (pc' := 18) (L' := [some (zv n0 a0), some (zi a1), some (zi x5)]) rfl rfl ?_)
      refine z_aload_n C d_Md_release_18 rfl (z_pc (pc' := 19) rfl ?_)
      obtain ⟨x7, h8, hf⟩ := zbind hf
      refine z_getr C fl_Md_53 rfl h8 d_Md_release_19 (z_pc (pc' := 22) rfl ?_)
      refine z_iload_n C d_Md_release_22 rfl (z_pc (pc' := 23) rfl ?_)
      refine z_iconst C d_Md_release_23 (z_pc (pc' := 24) rfl ?_)
      obtain ⟨M9, h10, hf⟩ := zbind hf
      refine z_bast C h10 d_Md_release_24 (z_pc (pc' := 25) rfl ?_)
      refine z_iload_n C d_Md_release_25 rfl (z_pc (pc' := 26) rfl ?_)
      obtain ⟨hz, hf⟩ := zif hf
      exact z_zret C hr hz (Nat.le_of_ble_eq_true rfl) (Nat.le_of_ble_eq_true rfl) d_Md_release_26 hf
    · have hf := zneg c2 hf
      refine z_iconst C d_Md_release_9 (z_pc (pc' := 10) rfl ?_)
      exact z_zret C hr rfl (Nat.le_of_ble_eq_true rfl) (Nat.le_of_ble_eq_true rfl) d_Md_release_10 hf
theorem e_Md_tick {a0 : Nat} {a1 : Int} {M : zHp} {q : Int × zHp} (hf : f_Md_tick a0 a1 M = some q) : zk M a0 = 8 := by
  unfold f_Md_tick at hf
  exact (zif hf).1
set_option maxHeartbeats 4000000 in
set_option maxRecDepth 100000 in
theorem c_Md_tick (D : va_G) (n0 : Nat) (l : Launch) {a0 : Nat} {a1 : Int} {M : zHp} {r : Int} {M' : zHp} (hf : f_Md_tick a0 a1 M = some (r, M')) : zM D n0 l y_Md_tick b_Md_tick 2 (some .int) 0 0 0 0 [zv n0 a0, zi a1] M (some (zi r)) M' := by
  refine zM.ofZ (by decide) (zcr (zci zcn)) (Nat.le_of_ble_eq_true rfl) ?_
  intro p e s m below meth c C hr hnm
  have C : zC D n0 p s m meth c b_Md_tick 2 "LayerVaultModel" := C
  refine z_eqL (L' := [some (zv n0 a0), some (zi a1)]) rfl ?_
  unfold f_Md_tick at hf
  have hf := (zif hf).2
  refine z_iload_n C d_Md_tick_0 rfl (z_pc (pc' := 1) rfl ?_)
  refine z_if_lt (tgt := 11) C d_Md_tick_1 (by decide) (fun c1 => ?_) (fun c1 => z_pc (pc' := 4) rfl ?_)
  · have hf := zpos c1 hf
    refine z_iconst C d_Md_tick_11 (z_pc (pc' := 12) rfl ?_)
    exact z_iret C hr (Nat.le_of_ble_eq_true rfl) (Nat.le_of_ble_eq_true rfl) d_Md_tick_12 hf
  · have hf := zneg c1 hf
    refine z_iload_n C d_Md_tick_4 rfl (z_pc (pc' := 5) rfl ?_)
    refine z_sipush C d_Md_tick_5 (by decide) (z_pc (pc' := 8) rfl ?_)
    refine z_icmp_le (tgt := 13) C d_Md_tick_8 (by decide) (fun c2 => ?_) (fun c2 => z_pc (pc' := 11) rfl ?_)
    · have hf := zpos c2 hf
      refine z_aload_n C d_Md_tick_13 rfl (z_pc (pc' := 14) rfl ?_)
      refine z_aload_n C d_Md_tick_14 rfl (z_pc (pc' := 15) rfl ?_)
      obtain ⟨x3, h4, hf⟩ := zbind hf
      refine z_geti C fl_Md_71 h4 d_Md_tick_15 (z_pc (pc' := 18) rfl ?_)
      refine z_iload_n C d_Md_tick_18 rfl (z_pc (pc' := 19) rfl ?_)
      refine z_iadd C d_Md_tick_19 (z_pc (pc' := 20) rfl ?_)
      obtain ⟨M5, h6, hf⟩ := zbind hf
      refine z_puti C fp_Md_71 (by decide) rfl h6 d_Md_tick_20 (z_pc (pc' := 23) rfl ?_)
      refine z_aload_n C d_Md_tick_23 rfl (z_pc (pc' := 24) rfl ?_)
      obtain ⟨x7, h8, hf⟩ := zbind hf
      refine z_geti C fl_Md_71 h8 d_Md_tick_24 (z_pc (pc' := 27) rfl ?_)
      exact z_iret C hr (Nat.le_of_ble_eq_true rfl) (Nat.le_of_ble_eq_true rfl) d_Md_tick_27 hf
    · have hf := zneg c2 hf
      refine z_iconst C d_Md_tick_11 (z_pc (pc' := 12) rfl ?_)
      exact z_iret C hr (Nat.le_of_ble_eq_true rfl) (Nat.le_of_ble_eq_true rfl) d_Md_tick_12 hf
