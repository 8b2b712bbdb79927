-- walks (printed by main.py)
theorem e_V_has {a0 : Nat} {a1 : Int} {a2 : Int} {M : zHp} {q : Int × zHp} (hf : f_V_has a0 a1 a2 M = some q) : zk M a0 = 0 := by
  unfold f_V_has at hf
  exact (zif hf).1
set_option maxHeartbeats 4000000 in
set_option maxRecDepth 100000 in
theorem c_V_has (D : va_G) (n0 : Nat) (l : Launch) {a0 : Nat} {a1 : Int} {a2 : Int} {M : zHp} {r : Int} {M' : zHp} (hf : f_V_has a0 a1 a2 M = some (r, M')) : zM D n0 l y_V_has b_V_has 3 (some .boolean) 4 97 0 0 [zv n0 a0, zi a1, zi a2] M (some (zi r)) M' := by
  refine zM.ofZ (by decide) (zcr (zci (zci zcn))) (Nat.le_of_ble_eq_true rfl) ?_
  intro p e s m below meth c C hr hnm
  have C : zC D n0 p s m meth c b_V_has 3 "LayerVault" := C
  refine z_eqL (L' := [some (zv n0 a0), some (zi a1), some (zi a2)]) rfl ?_
  unfold f_V_has at hf
  have hf := (zif hf).2
  refine z_aload_n C d_V_has_0 rfl (z_pc (pc' := 1) rfl ?_)
  refine z_iload_n C d_V_has_1 rfl (z_pc (pc' := 2) rfl ?_)
  obtain ⟨x3, M2, h1, hf⟩ := zb2_inv hf
  refine z_callV C [zi a1] [] kv_V_332 (c_V_isSnapshot D n0 l h1) (e_V_isSnapshot h1) ⟨(Nat.le_of_ble_eq_true rfl), (Nat.le_of_ble_eq_true rfl)⟩ (Nat.le_of_ble_eq_true rfl) ⟨(Nat.le_of_ble_eq_true rfl), (Nat.le_of_ble_eq_true rfl)⟩ d_V_has_2 (z_pc (pc' := 5) rfl ?_)
  refine z_if_eq (tgt := 28) C d_V_has_5 (by decide) (fun c4 => ?_) (fun c4 => z_pc (pc' := 8) rfl ?_)
  · have hf := zpos c4 hf
    refine z_iconst C d_V_has_28 (z_pc (pc' := 29) rfl ?_)
    exact z_zret C hr rfl (Nat.le_of_ble_eq_true rfl) (Nat.le_of_ble_eq_true rfl) d_V_has_29 hf
  · have hf := zneg c4 hf
    refine z_iload_n C d_V_has_8 rfl (z_pc (pc' := 9) rfl ?_)
    obtain ⟨x7, M6, h5, hf⟩ := zb2_inv hf
    refine z_callS C [zi a2] [] ks_V_112 (c_V_isKey D n0 l h5) ⟨(Nat.le_of_ble_eq_true rfl), (Nat.le_of_ble_eq_true rfl)⟩ (Nat.le_of_ble_eq_true rfl) ⟨(Nat.le_of_ble_eq_true rfl), (Nat.le_of_ble_eq_true rfl)⟩ d_V_has_9 (z_pc (pc' := 12) rfl ?_)
    refine z_if_eq (tgt := 28) C d_V_has_12 (by decide) (fun c8 => ?_) (fun c8 => z_pc (pc' := 15) rfl ?_)
    · have hf := zpos c8 hf
      refine z_iconst C d_V_has_28 (z_pc (pc' := 29) rfl ?_)
      exact z_zret C hr rfl (Nat.le_of_ble_eq_true rfl) (Nat.le_of_ble_eq_true rfl) d_V_has_29 hf
    · have hf := zneg c8 hf
      refine z_aload_n C d_V_has_15 rfl (z_pc (pc' := 16) rfl ?_)
      refine z_iload_n C d_V_has_16 rfl (z_pc (pc' := 17) rfl ?_)
      refine z_iload_n C d_V_has_17 rfl (z_pc (pc' := 18) rfl ?_)
      obtain ⟨x11, M10, h9, hf⟩ := zb2_inv hf
      refine z_callV C [zi a1, zi a2] [] kv_V_335 (c_V_search D n0 l h9) (e_V_search h9) ⟨(Nat.le_of_ble_eq_true rfl), (Nat.le_of_ble_eq_true rfl)⟩ (Nat.le_of_ble_eq_true rfl) ⟨(Nat.le_of_ble_eq_true rfl), (Nat.le_of_ble_eq_true rfl)⟩ d_V_has_18 (z_pc (pc' := 21) rfl ?_)
      refine z_ifnull (tgt := 28) C d_V_has_21 (by decide) (fun c12 => ?_) (fun c12 => (z_pc (pc' := 24) rfl ?_))
      · have hf := zpos c12 hf
        refine z_iconst C d_V_has_28 (z_pc (pc' := 29) rfl ?_)
        exact z_zret C hr rfl (Nat.le_of_ble_eq_true rfl) (Nat.le_of_ble_eq_true rfl) d_V_has_29 hf
      · have hf := zneg c12 hf
        refine z_iconst C d_V_has_24 (z_pc (pc' := 25) rfl ?_)
        refine z_goto (tgt := 29) C d_V_has_25 (by decide) ?_
        exact z_zret C hr rfl (Nat.le_of_ble_eq_true rfl) (Nat.le_of_ble_eq_true rfl) d_V_has_29 hf
theorem e_V_get {a0 : Nat} {a1 : Int} {a2 : Int} {M : zHp} {q : Int × zHp} (hf : f_V_get a0 a1 a2 M = some q) : zk M a0 = 0 := by
  unfold f_V_get at hf
  exact (zif hf).1
set_option maxHeartbeats 4000000 in
set_option maxRecDepth 100000 in
theorem c_V_get (D : va_G) (n0 : Nat) (l : Launch) {a0 : Nat} {a1 : Int} {a2 : Int} {M : zHp} {r : Int} {M' : zHp} (hf : f_V_get a0 a1 a2 M = some (r, M')) : zM D n0 l y_V_get b_V_get 4 (some .int) 4 97 0 0 [zv n0 a0, zi a1, zi a2] M (some (zi r)) M' := by
  refine zM.ofZ (by decide) (zcr (zci (zci zcn))) (Nat.le_of_ble_eq_true rfl) ?_
  intro p e s m below meth c C hr hnm
  have C : zC D n0 p s m meth c b_V_get 4 "LayerVault" := C
  refine z_eqL (L' := [some (zv n0 a0), some (zi a1), some (zi a2), none]) rfl ?_
  unfold f_V_get at hf
  have hf := (zif hf).2
  refine z_aload_n C d_V_get_0 rfl (z_pc (pc' := 1) rfl ?_)
  refine z_iload_n C d_V_get_1 rfl (z_pc (pc' := 2) rfl ?_)
  obtain ⟨x3, M2, h1, hf⟩ := zb2_inv hf
  refine z_callV C [zi a1] [] kv_V_332 (c_V_isSnapshot D n0 l h1) (e_V_isSnapshot h1) ⟨(Nat.le_of_ble_eq_true rfl), (Nat.le_of_ble_eq_true rfl)⟩ (Nat.le_of_ble_eq_true rfl) ⟨(Nat.le_of_ble_eq_true rfl), (Nat.le_of_ble_eq_true rfl)⟩ d_V_get_2 (z_pc (pc' := 5) rfl ?_)
  refine z_if_eq (tgt := 15) C d_V_get_5 (by decide) (fun c4 => ?_) (fun c4 => z_pc (pc' := 8) rfl ?_)
  · have hf := zpos c4 hf
    refine z_iconst C d_V_get_15 (z_pc (pc' := 16) rfl ?_)
    exact z_iret C hr (Nat.le_of_ble_eq_true rfl) (Nat.le_of_ble_eq_true rfl) d_V_get_16 hf
  · have hf := zneg c4 hf
    refine z_iload_n C d_V_get_8 rfl (z_pc (pc' := 9) rfl ?_)
    obtain ⟨x7, M6, h5, hf⟩ := zb2_inv hf
    refine z_callS C [zi a2] [] ks_V_112 (c_V_isKey D n0 l h5) ⟨(Nat.le_of_ble_eq_true rfl), (Nat.le_of_ble_eq_true rfl)⟩ (Nat.le_of_ble_eq_true rfl) ⟨(Nat.le_of_ble_eq_true rfl), (Nat.le_of_ble_eq_true rfl)⟩ d_V_get_9 (z_pc (pc' := 12) rfl ?_)
    refine z_if_ne (tgt := 17) C d_V_get_12 (by decide) (fun c8 => ?_) (fun c8 => z_pc (pc' := 15) rfl ?_)
    · have hf := zneg c8 hf
      refine z_aload_n C d_V_get_17 rfl (z_pc (pc' := 18) rfl ?_)
      refine z_iload_n C d_V_get_18 rfl (z_pc (pc' := 19) rfl ?_)
      refine z_iload_n C d_V_get_19 rfl (z_pc (pc' := 20) rfl ?_)
      obtain ⟨x11, M10, h9, hf⟩ := zb2_inv hf
      refine z_callV C [zi a1, zi a2] [] kv_V_335 (c_V_search D n0 l h9) (e_V_search h9) ⟨(Nat.le_of_ble_eq_true rfl), (Nat.le_of_ble_eq_true rfl)⟩ (Nat.le_of_ble_eq_true rfl) ⟨(Nat.le_of_ble_eq_true rfl), (Nat.le_of_ble_eq_true rfl)⟩ d_V_get_20 (z_pc (pc' := 23) rfl ?_)
      refine z_astore_n C d_V_get_23 (by decide) (z_pl (pc' := 24) (L' := [some (zv n0 a0), some (zi a1), some (zi a2), some (zv n0 x11)]) rfl rfl ?_)
      refine z_aload_n C d_V_get_24 rfl (z_pc (pc' := 25) rfl ?_)
      refine z_ifnonnull (tgt := 32) C d_V_get_25 (by decide) (fun c12 => ?_) (fun c12 => (z_pc (pc' := 28) rfl ?_))
      · have hf := zneg c12 hf
        refine z_aload_n C d_V_get_32 rfl (z_pc (pc' := 33) rfl ?_)
        obtain ⟨x15, M14, h13, hf⟩ := zb2_inv hf
        refine z_callV C [] [] kv_V_297 (c_E_value D n0 l h13) (e_E_value h13) ⟨(Nat.le_of_ble_eq_true rfl), (Nat.le_of_ble_eq_true rfl)⟩ (Nat.le_of_ble_eq_true rfl) ⟨(Nat.le_of_ble_eq_true rfl), (Nat.le_of_ble_eq_true rfl)⟩ d_V_get_33 (z_pc (pc' := 36) rfl ?_)
        exact z_iret C hr (Nat.le_of_ble_eq_true rfl) (Nat.le_of_ble_eq_true rfl) d_V_get_36 hf
      · have hf := zpos c12 hf
        refine z_iconst C d_V_get_28 (z_pc (pc' := 29) rfl ?_)
        refine z_goto (tgt := 36) C d_V_get_29 (by decide) ?_
        exact z_iret C hr (Nat.le_of_ble_eq_true rfl) (Nat.le_of_ble_eq_true rfl) d_V_get_36 hf
    · have hf := zpos c8 hf
      refine z_iconst C d_V_get_15 (z_pc (pc' := 16) rfl ?_)
      exact z_iret C hr (Nat.le_of_ble_eq_true rfl) (Nat.le_of_ble_eq_true rfl) d_V_get_16 hf
set_option maxHeartbeats 4000000 in
set_option maxRecDepth 100000 in
theorem w_V_scan_L51 {D : va_G} {n0 : Nat} {l : Launch} {p : Program} {e : Env} {s : State} {m : MethodId} {args : Array Value} {below : List Frame} {meth : Method} {c : Code} {a0 : Nat} {a2 : Int} {a3 : Int} {a4 : Int} {r : Int} {M' : zHp} {κ : zHp → Option (Int × zHp)} (C : zC D n0 p s m meth c b_V_scan 8 "LayerVault") (hr : meth.sig.returnType = (some .int))
    (hκ : ∀ (M1 : zHp), κ M1 = some (r, M') → zZ D n0 p l e { frames := 4, cells := 0, slots := 0, locals := 94 } s m args below meth c 8 0 0 (MQ below (zQc D n0 (some (zi r)) M') args s 0 0 (fun q => n0 ≤ q)) 70 [some (zv n0 a0), none, none, some (zi a3), some (zi a4), none, none, none] [] M1) :
    ∀ (n : Nat) (v5 : Int) (M : zHp), f_V_scan_L51 κ a0 a2 n v5 M = some (r, M') → zZ D n0 p l e { frames := 4, cells := 0, slots := 0, locals := 94 } s m args below meth c 8 0 0 (MQ below (zQc D n0 (some (zi r)) M') args s 0 0 (fun q => n0 ≤ q)) 51 [some (zv n0 a0), none, some (zi a2), some (zi a3), some (zi a4), some (zi v5), none, none] [] M := by
  intro n
  induction n with
  | zero =>
    intro v5 M hf
    exact absurd hf (by unfold f_V_scan_L51; simp)
  | succ n ih =>
    intro v5 M hf
    unfold f_V_scan_L51 at hf
    refine z_iload C d_V_scan_51 rfl (z_pc (pc' := 53) rfl ?_)
    refine z_iconst C d_V_scan_53 (z_pc (pc' := 54) rfl ?_)
    refine z_icmp_ge (tgt := 70) C d_V_scan_54 (by decide) (fun c23 => ?_) (fun c23 => z_pc (pc' := 57) rfl ?_)
    · have hf := zpos c23 hf
      exact z_sub2 (hκ _ hf) (And.intro rfl (And.intro rfl (And.intro rfl trivial)))
    · have hf := zneg c23 hf
      refine z_aload_n C d_V_scan_57 rfl (z_pc (pc' := 58) rfl ?_)
      refine z_iload C d_V_scan_58 rfl (z_pc (pc' := 60) rfl ?_)
      refine z_iload_n C d_V_scan_60 rfl (z_pc (pc' := 61) rfl ?_)
      obtain ⟨M25, h24, hf⟩ := zbind hf
      refine z_callV C [zi v5, zi a2] [] kv_V_238 (c_V_join D n0 l h24) (e_V_join h24) ⟨(Nat.le_of_ble_eq_true rfl), (Nat.le_of_ble_eq_true rfl)⟩ (Nat.le_of_ble_eq_true rfl) ⟨(Nat.le_of_ble_eq_true rfl), (Nat.le_of_ble_eq_true rfl)⟩ d_V_scan_61 (z_pc (pc' := 64) rfl ?_)
      refine z_iinc C d_V_scan_64 rfl (by decide) (z_pl (pc' := 67) (L' := [some (zv n0 a0), none, some (zi a2), some (zi a3), some (zi a4), some (zi (zadd v5 1)), none, none]) rfl rfl ?_)
      refine z_goto (tgt := 51) C d_V_scan_67 (by decide) ?_
      exact z_sub2 (ih _ _ hf) (And.intro rfl (And.intro rfl (And.intro rfl (And.intro rfl (And.intro rfl trivial)))))
set_option maxHeartbeats 4000000 in
set_option maxRecDepth 100000 in
theorem w_V_scan_L85 {D : va_G} {n0 : Nat} {l : Launch} {p : Program} {e : Env} {s : State} {m : MethodId} {args : Array Value} {below : List Frame} {meth : Method} {c : Code} {a0 : Nat} {a4 : Int} {r : Int} {M' : zHp} {κ : zHp → Option (Int × zHp)} (C : zC D n0 p s m meth c b_V_scan 8 "LayerVault") (hr : meth.sig.returnType = (some .int))
    (hκ : ∀ (M1 : zHp), κ M1 = some (r, M') → zZ D n0 p l e { frames := 4, cells := 0, slots := 0, locals := 94 } s m args below meth c 8 0 0 (MQ below (zQc D n0 (some (zi r)) M') args s 0 0 (fun q => n0 ≤ q)) 181 [none, none, none, none, none, none, none, none] [] M1) :
    ∀ (n : Nat) (v5 : Int) (v6 : Int) (v7 : Nat) (M : zHp), f_V_scan_L85 κ a0 a4 n v5 v6 v7 M = some (r, M') → zZ D n0 p l e { frames := 4, cells := 0, slots := 0, locals := 94 } s m args below meth c 8 0 0 (MQ below (zQc D n0 (some (zi r)) M') args s 0 0 (fun q => n0 ≤ q)) 85 [some (zv n0 a0), none, none, none, some (zi a4), some (zi v5), some (zi v6), some (zv n0 v7)] [] M := by
  intro n
  induction n with
  | zero =>
    intro v5 v6 v7 M hf
    exact absurd hf (by unfold f_V_scan_L85; simp)
  | succ n ih =>
    intro v5 v6 v7 M hf
    unfold f_V_scan_L85 at hf
    refine z_aload C d_V_scan_85 rfl (z_pc (pc' := 87) rfl ?_)
    refine z_ifnull (tgt := 181) C d_V_scan_87 (by decide) (fun c32 => ?_) (fun c32 => (z_pc (pc' := 90) rfl ?_))
    · have hf := zpos c32 hf
      exact z_sub2 (hκ _ hf) trivial
    · have hf := zneg c32 hf
      refine z_aload C d_V_scan_90 rfl (z_pc (pc' := 92) rfl ?_)
      obtain ⟨x33, h34, hf⟩ := zbind hf
      refine z_geti C fl_V_156 h34 d_V_scan_92 (z_pc (pc' := 95) rfl ?_)
      refine z_iload C d_V_scan_95 rfl (z_pc (pc' := 97) rfl ?_)
      refine z_icmp_eq (tgt := 162) C d_V_scan_97 (by decide) (fun c35 => ?_) (fun c35 => z_pc (pc' := 100) rfl ?_)
      · have hf := zpos c35 hf
        refine z_aload_n C d_V_scan_162 rfl (z_pc (pc' := 163) rfl ?_)
        obtain ⟨x36, h37, hf⟩ := zbind hf
        refine z_getr C fl_V_61 rfl h37 d_V_scan_163 (z_pc (pc' := 166) rfl ?_)
        obtain ⟨M39, h38, hf⟩ := zbind hf
        refine z_callV C [] [] kv_V_339 (c_Mg_step D n0 l h38) (e_Mg_step h38) ⟨(Nat.le_of_ble_eq_true rfl), (Nat.le_of_ble_eq_true rfl)⟩ (Nat.le_of_ble_eq_true rfl) ⟨(Nat.le_of_ble_eq_true rfl), (Nat.le_of_ble_eq_true rfl)⟩ d_V_scan_166 (z_pc (pc' := 169) rfl ?_)
        refine z_aload_n C d_V_scan_169 rfl (z_pc (pc' := 170) rfl ?_)
        obtain ⟨x40, h41, hf⟩ := zbind hf
        refine z_getr C fl_V_61 rfl h41 d_V_scan_170 (z_pc (pc' := 173) rfl ?_)
        obtain ⟨x44, M43, h42, hf⟩ := zb2_inv hf
        refine z_callV C [] [] kv_V_338 (c_Mg_look D n0 l h42) (e_Mg_look h42) ⟨(Nat.le_of_ble_eq_true rfl), (Nat.le_of_ble_eq_true rfl)⟩ (Nat.le_of_ble_eq_true rfl) ⟨(Nat.le_of_ble_eq_true rfl), (Nat.le_of_ble_eq_true rfl)⟩ d_V_scan_173 (z_pc (pc' := 176) rfl ?_)
        refine z_astore C d_V_scan_176 (by decide) (z_pl (pc' := 178) (L' := [some (zv n0 a0), none, none, none, some (zi a4), some (zi v5), some (zi v6), some (zv n0 x44)]) rfl rfl ?_)
        refine z_goto (tgt := 85) C d_V_scan_178 (by decide) ?_
        exact z_sub2 (ih _ _ _ _ hf) (And.intro rfl (And.intro rfl (And.intro rfl (And.intro rfl (And.intro rfl trivial)))))
      · have hf := zneg c35 hf
        refine z_aload C d_V_scan_100 rfl (z_pc (pc' := 102) rfl ?_)
        obtain ⟨x45, h46, hf⟩ := zbind hf
        refine z_geti C fl_V_163 h46 d_V_scan_102 (z_pc (pc' := 105) rfl ?_)
        refine z_iload C d_V_scan_105 rfl (z_pc (pc' := 107) rfl ?_)
        refine z_icmp_gt (tgt := 162) C d_V_scan_107 (by decide) (fun c47 => ?_) (fun c47 => z_pc (pc' := 110) rfl ?_)
        · have hf := zpos c47 hf
          refine z_aload_n C d_V_scan_162 rfl (z_pc (pc' := 163) rfl ?_)
          obtain ⟨x48, h49, hf⟩ := zbind hf
          refine z_getr C fl_V_61 rfl h49 d_V_scan_163 (z_pc (pc' := 166) rfl ?_)
          obtain ⟨M51, h50, hf⟩ := zbind hf
          refine z_callV C [] [] kv_V_339 (c_Mg_step D n0 l h50) (e_Mg_step h50) ⟨(Nat.le_of_ble_eq_true rfl), (Nat.le_of_ble_eq_true rfl)⟩ (Nat.le_of_ble_eq_true rfl) ⟨(Nat.le_of_ble_eq_true rfl), (Nat.le_of_ble_eq_true rfl)⟩ d_V_scan_166 (z_pc (pc' := 169) rfl ?_)
          refine z_aload_n C d_V_scan_169 rfl (z_pc (pc' := 170) rfl ?_)
          obtain ⟨x52, h53, hf⟩ := zbind hf
          refine z_getr C fl_V_61 rfl h53 d_V_scan_170 (z_pc (pc' := 173) rfl ?_)
          obtain ⟨x56, M55, h54, hf⟩ := zb2_inv hf
          refine z_callV C [] [] kv_V_338 (c_Mg_look D n0 l h54) (e_Mg_look h54) ⟨(Nat.le_of_ble_eq_true rfl), (Nat.le_of_ble_eq_true rfl)⟩ (Nat.le_of_ble_eq_true rfl) ⟨(Nat.le_of_ble_eq_true rfl), (Nat.le_of_ble_eq_true rfl)⟩ d_V_scan_173 (z_pc (pc' := 176) rfl ?_)
          refine z_astore C d_V_scan_176 (by decide) (z_pl (pc' := 178) (L' := [some (zv n0 a0), none, none, none, some (zi a4), some (zi v5), some (zi v6), some (zv n0 x56)]) rfl rfl ?_)
          refine z_goto (tgt := 85) C d_V_scan_178 (by decide) ?_
          exact z_sub2 (ih _ _ _ _ hf) (And.intro rfl (And.intro rfl (And.intro rfl (And.intro rfl (And.intro rfl trivial)))))
        · have hf := zneg c47 hf
          refine z_aload C d_V_scan_110 rfl (z_pc (pc' := 112) rfl ?_)
          obtain ⟨x57, h58, hf⟩ := zbind hf
          refine z_geti C fl_V_156 h58 d_V_scan_112 (z_pc (pc' := 115) rfl ?_)
          refine z_istore C d_V_scan_115 (by decide) (z_pl (pc' := 117) (L' := [some (zv n0 a0), none, none, none, some (zi a4), some (zi v5), some (zi x57), some (zv n0 v7)]) rfl rfl ?_)
          refine z_aload C d_V_scan_117 rfl (z_pc (pc' := 119) rfl ?_)
          refine z_aload_n C d_V_scan_119 rfl (z_pc (pc' := 120) rfl ?_)
          obtain ⟨x59, h60, hf⟩ := zbind hf
          refine z_geti C fl_V_138 h60 d_V_scan_120 (z_pc (pc' := 123) rfl ?_)
          obtain ⟨x63, M62, h61, hf⟩ := zb2_inv hf
          refine z_callV C [zi x59] [] kv_V_197 (c_E_gone D n0 l h61) (e_E_gone h61) ⟨(Nat.le_of_ble_eq_true rfl), (Nat.le_of_ble_eq_true rfl)⟩ (Nat.le_of_ble_eq_true rfl) ⟨(Nat.le_of_ble_eq_true rfl), (Nat.le_of_ble_eq_true rfl)⟩ d_V_scan_123 (z_pc (pc' := 126) rfl ?_)
          refine z_if_ne (tgt := 140) C d_V_scan_126 (by decide) (fun c64 => ?_) (fun c64 => z_pc (pc' := 129) rfl ?_)
          · have hf := zneg c64 hf
            refine z_iload C d_V_scan_140 rfl (z_pc (pc' := 142) rfl ?_)
            refine z_aload C d_V_scan_142 rfl (z_pc (pc' := 144) rfl ?_)
            refine z_aload_n C d_V_scan_144 rfl (z_pc (pc' := 145) rfl ?_)
            obtain ⟨x65, h66, hf⟩ := zbind hf
            refine z_geti C fl_V_138 h66 d_V_scan_145 (z_pc (pc' := 148) rfl ?_)
            obtain ⟨x69, M68, h67, hf⟩ := zb2_inv hf
            refine z_callV C [zi x65] [zi v5] kv_V_197 (c_E_gone D n0 l h67) (e_E_gone h67) ⟨(Nat.le_of_ble_eq_true rfl), (Nat.le_of_ble_eq_true rfl)⟩ (Nat.le_of_ble_eq_true rfl) ⟨(Nat.le_of_ble_eq_true rfl), (Nat.le_of_ble_eq_true rfl)⟩ d_V_scan_148 (z_pc (pc' := 151) rfl ?_)
            refine z_if_eq (tgt := 158) C d_V_scan_151 (by decide) (fun c70 => ?_) (fun c70 => z_pc (pc' := 154) rfl ?_)
            · have hf := zpos c70 hf
              refine z_iconst C d_V_scan_158 (z_pc (pc' := 159) rfl ?_)
              refine z_isub C d_V_scan_159 (z_pc (pc' := 160) rfl ?_)
              refine z_istore C d_V_scan_160 (by decide) (z_pl (pc' := 162) (L' := [some (zv n0 a0), none, none, none, some (zi a4), some (zi (zsub v5 1)), some (zi x57), some (zv n0 v7)]) rfl rfl ?_)
              refine z_aload_n C d_V_scan_162 rfl (z_pc (pc' := 163) rfl ?_)
              obtain ⟨x71, h72, hf⟩ := zbind hf
              refine z_getr C fl_V_61 rfl h72 d_V_scan_163 (z_pc (pc' := 166) rfl ?_)
              obtain ⟨M74, h73, hf⟩ := zbind hf
              refine z_callV C [] [] kv_V_339 (c_Mg_step D n0 l h73) (e_Mg_step h73) ⟨(Nat.le_of_ble_eq_true rfl), (Nat.le_of_ble_eq_true rfl)⟩ (Nat.le_of_ble_eq_true rfl) ⟨(Nat.le_of_ble_eq_true rfl), (Nat.le_of_ble_eq_true rfl)⟩ d_V_scan_166 (z_pc (pc' := 169) rfl ?_)
              refine z_aload_n C d_V_scan_169 rfl (z_pc (pc' := 170) rfl ?_)
              obtain ⟨x75, h76, hf⟩ := zbind hf
              refine z_getr C fl_V_61 rfl h76 d_V_scan_170 (z_pc (pc' := 173) rfl ?_)
              obtain ⟨x79, M78, h77, hf⟩ := zb2_inv hf
              refine z_callV C [] [] kv_V_338 (c_Mg_look D n0 l h77) (e_Mg_look h77) ⟨(Nat.le_of_ble_eq_true rfl), (Nat.le_of_ble_eq_true rfl)⟩ (Nat.le_of_ble_eq_true rfl) ⟨(Nat.le_of_ble_eq_true rfl), (Nat.le_of_ble_eq_true rfl)⟩ d_V_scan_173 (z_pc (pc' := 176) rfl ?_)
              refine z_astore C d_V_scan_176 (by decide) (z_pl (pc' := 178) (L' := [some (zv n0 a0), none, none, none, some (zi a4), some (zi (zsub v5 1)), some (zi x57), some (zv n0 x79)]) rfl rfl ?_)
              refine z_goto (tgt := 85) C d_V_scan_178 (by decide) ?_
              exact z_sub2 (ih _ _ _ _ hf) (And.intro rfl (And.intro rfl (And.intro rfl (And.intro rfl (And.intro rfl trivial)))))
            · have hf := zneg c70 hf
              refine z_iconst C d_V_scan_154 (z_pc (pc' := 155) rfl ?_)
              refine z_goto (tgt := 159) C d_V_scan_155 (by decide) ?_
              refine z_isub C d_V_scan_159 (z_pc (pc' := 160) rfl ?_)
              refine z_istore C d_V_scan_160 (by decide) (z_pl (pc' := 162) (L' := [some (zv n0 a0), none, none, none, some (zi a4), some (zi (zsub v5 0)), some (zi x57), some (zv n0 v7)]) rfl rfl ?_)
              refine z_aload_n C d_V_scan_162 rfl (z_pc (pc' := 163) rfl ?_)
              obtain ⟨x80, h81, hf⟩ := zbind hf
              refine z_getr C fl_V_61 rfl h81 d_V_scan_163 (z_pc (pc' := 166) rfl ?_)
              obtain ⟨M83, h82, hf⟩ := zbind hf
              refine z_callV C [] [] kv_V_339 (c_Mg_step D n0 l h82) (e_Mg_step h82) ⟨(Nat.le_of_ble_eq_true rfl), (Nat.le_of_ble_eq_true rfl)⟩ (Nat.le_of_ble_eq_true rfl) ⟨(Nat.le_of_ble_eq_true rfl), (Nat.le_of_ble_eq_true rfl)⟩ d_V_scan_166 (z_pc (pc' := 169) rfl ?_)
              refine z_aload_n C d_V_scan_169 rfl (z_pc (pc' := 170) rfl ?_)
              obtain ⟨x84, h85, hf⟩ := zbind hf
              refine z_getr C fl_V_61 rfl h85 d_V_scan_170 (z_pc (pc' := 173) rfl ?_)
              obtain ⟨x88, M87, h86, hf⟩ := zb2_inv hf
              refine z_callV C [] [] kv_V_338 (c_Mg_look D n0 l h86) (e_Mg_look h86) ⟨(Nat.le_of_ble_eq_true rfl), (Nat.le_of_ble_eq_true rfl)⟩ (Nat.le_of_ble_eq_true rfl) ⟨(Nat.le_of_ble_eq_true rfl), (Nat.le_of_ble_eq_true rfl)⟩ d_V_scan_173 (z_pc (pc' := 176) rfl ?_)
              refine z_astore C d_V_scan_176 (by decide) (z_pl (pc' := 178) (L' := [some (zv n0 a0), none, none, none, some (zi a4), some (zi (zsub v5 0)), some (zi x57), some (zv n0 x88)]) rfl rfl ?_)
              refine z_goto (tgt := 85) C d_V_scan_178 (by decide) ?_
              exact z_sub2 (ih _ _ _ _ hf) (And.intro rfl (And.intro rfl (And.intro rfl (And.intro rfl (And.intro rfl trivial)))))
          · have hf := zpos c64 hf
            refine z_iload C d_V_scan_129 rfl (z_pc (pc' := 131) rfl ?_)
            refine z_if_ne (tgt := 140) C d_V_scan_131 (by decide) (fun c89 => ?_) (fun c89 => z_pc (pc' := 134) rfl ?_)
            · have hf := zneg c89 hf
              refine z_iload C d_V_scan_140 rfl (z_pc (pc' := 142) rfl ?_)
              refine z_aload C d_V_scan_142 rfl (z_pc (pc' := 144) rfl ?_)
              refine z_aload_n C d_V_scan_144 rfl (z_pc (pc' := 145) rfl ?_)
              obtain ⟨x90, h91, hf⟩ := zbind hf
              refine z_geti C fl_V_138 h91 d_V_scan_145 (z_pc (pc' := 148) rfl ?_)
              obtain ⟨x94, M93, h92, hf⟩ := zb2_inv hf
              refine z_callV C [zi x90] [zi v5] kv_V_197 (c_E_gone D n0 l h92) (e_E_gone h92) ⟨(Nat.le_of_ble_eq_true rfl), (Nat.le_of_ble_eq_true rfl)⟩ (Nat.le_of_ble_eq_true rfl) ⟨(Nat.le_of_ble_eq_true rfl), (Nat.le_of_ble_eq_true rfl)⟩ d_V_scan_148 (z_pc (pc' := 151) rfl ?_)
              refine z_if_eq (tgt := 158) C d_V_scan_151 (by decide) (fun c95 => ?_) (fun c95 => z_pc (pc' := 154) rfl ?_)
              · have hf := zpos c95 hf
                refine z_iconst C d_V_scan_158 (z_pc (pc' := 159) rfl ?_)
                refine z_isub C d_V_scan_159 (z_pc (pc' := 160) rfl ?_)
                refine z_istore C d_V_scan_160 (by decide) (z_pl (pc' := 162) (L' := [some (zv n0 a0), none, none, none, some (zi a4), some (zi (zsub v5 1)), some (zi x57), some (zv n0 v7)]) rfl rfl ?_)
                refine z_aload_n C d_V_scan_162 rfl (z_pc (pc' := 163) rfl ?_)
                obtain ⟨x96, h97, hf⟩ := zbind hf
                refine z_getr C fl_V_61 rfl h97 d_V_scan_163 (z_pc (pc' := 166) rfl ?_)
                obtain ⟨M99, h98, hf⟩ := zbind hf
                refine z_callV C [] [] kv_V_339 (c_Mg_step D n0 l h98) (e_Mg_step h98) ⟨(Nat.le_of_ble_eq_true rfl), (Nat.le_of_ble_eq_true rfl)⟩ (Nat.le_of_ble_eq_true rfl) ⟨(Nat.le_of_ble_eq_true rfl), (Nat.le_of_ble_eq_true rfl)⟩ d_V_scan_166 (z_pc (pc' := 169) rfl ?_)
                refine z_aload_n C d_V_scan_169 rfl (z_pc (pc' := 170) rfl ?_)
                obtain ⟨x100, h101, hf⟩ := zbind hf
                refine z_getr C fl_V_61 rfl h101 d_V_scan_170 (z_pc (pc' := 173) rfl ?_)
                obtain ⟨x104, M103, h102, hf⟩ := zb2_inv hf
                refine z_callV C [] [] kv_V_338 (c_Mg_look D n0 l h102) (e_Mg_look h102) ⟨(Nat.le_of_ble_eq_true rfl), (Nat.le_of_ble_eq_true rfl)⟩ (Nat.le_of_ble_eq_true rfl) ⟨(Nat.le_of_ble_eq_true rfl), (Nat.le_of_ble_eq_true rfl)⟩ d_V_scan_173 (z_pc (pc' := 176) rfl ?_)
                refine z_astore C d_V_scan_176 (by decide) (z_pl (pc' := 178) (L' := [some (zv n0 a0), none, none, none, some (zi a4), some (zi (zsub v5 1)), some (zi x57), some (zv n0 x104)]) rfl rfl ?_)
                refine z_goto (tgt := 85) C d_V_scan_178 (by decide) ?_
                exact z_sub2 (ih _ _ _ _ hf) (And.intro rfl (And.intro rfl (And.intro rfl (And.intro rfl (And.intro rfl trivial)))))
              · have hf := zneg c95 hf
                refine z_iconst C d_V_scan_154 (z_pc (pc' := 155) rfl ?_)
                refine z_goto (tgt := 159) C d_V_scan_155 (by decide) ?_
                refine z_isub C d_V_scan_159 (z_pc (pc' := 160) rfl ?_)
                refine z_istore C d_V_scan_160 (by decide) (z_pl (pc' := 162) (L' := [some (zv n0 a0), none, none, none, some (zi a4), some (zi (zsub v5 0)), some (zi x57), some (zv n0 v7)]) rfl rfl ?_)
                refine z_aload_n C d_V_scan_162 rfl (z_pc (pc' := 163) rfl ?_)
                obtain ⟨x105, h106, hf⟩ := zbind hf
                refine z_getr C fl_V_61 rfl h106 d_V_scan_163 (z_pc (pc' := 166) rfl ?_)
                obtain ⟨M108, h107, hf⟩ := zbind hf
                refine z_callV C [] [] kv_V_339 (c_Mg_step D n0 l h107) (e_Mg_step h107) ⟨(Nat.le_of_ble_eq_true rfl), (Nat.le_of_ble_eq_true rfl)⟩ (Nat.le_of_ble_eq_true rfl) ⟨(Nat.le_of_ble_eq_true rfl), (Nat.le_of_ble_eq_true rfl)⟩ d_V_scan_166 (z_pc (pc' := 169) rfl ?_)
                refine z_aload_n C d_V_scan_169 rfl (z_pc (pc' := 170) rfl ?_)
                obtain ⟨x109, h110, hf⟩ := zbind hf
                refine z_getr C fl_V_61 rfl h110 d_V_scan_170 (z_pc (pc' := 173) rfl ?_)
                obtain ⟨x113, M112, h111, hf⟩ := zb2_inv hf
                refine z_callV C [] [] kv_V_338 (c_Mg_look D n0 l h111) (e_Mg_look h111) ⟨(Nat.le_of_ble_eq_true rfl), (Nat.le_of_ble_eq_true rfl)⟩ (Nat.le_of_ble_eq_true rfl) ⟨(Nat.le_of_ble_eq_true rfl), (Nat.le_of_ble_eq_true rfl)⟩ d_V_scan_173 (z_pc (pc' := 176) rfl ?_)
                refine z_astore C d_V_scan_176 (by decide) (z_pl (pc' := 178) (L' := [some (zv n0 a0), none, none, none, some (zi a4), some (zi (zsub v5 0)), some (zi x57), some (zv n0 x113)]) rfl rfl ?_)
                refine z_goto (tgt := 85) C d_V_scan_178 (by decide) ?_
                exact z_sub2 (ih _ _ _ _ hf) (And.intro rfl (And.intro rfl (And.intro rfl (And.intro rfl (And.intro rfl trivial)))))
            · have hf := zpos c89 hf
              refine z_aload C d_V_scan_134 rfl (z_pc (pc' := 136) rfl ?_)
              obtain ⟨x114, h115, hf⟩ := zbind hf
              refine z_geti C fl_V_156 h115 d_V_scan_136 (z_pc (pc' := 139) rfl ?_)
              exact z_iret C hr (Nat.le_of_ble_eq_true rfl) (Nat.le_of_ble_eq_true rfl) d_V_scan_139 hf
theorem e_V_scan {a0 : Nat} {a1 : Int} {a2 : Int} {a3 : Int} {M : zHp} {q : Int × zHp} (hf : f_V_scan a0 a1 a2 a3 M = some q) : zk M a0 = 0 := by
  unfold f_V_scan at hf
  exact (zif hf).1
set_option maxHeartbeats 4000000 in
set_option maxRecDepth 100000 in
theorem c_V_scan (D : va_G) (n0 : Nat) (l : Launch) {a0 : Nat} {a1 : Int} {a2 : Int} {a3 : Int} {M : zHp} {r : Int} {M' : zHp} (hf : f_V_scan a0 a1 a2 a3 M = some (r, M')) : zM D n0 l y_V_scan b_V_scan 8 (some .int) 4 94 0 0 [zv n0 a0, zi a1, zi a2, zi a3] M (some (zi r)) M' := by
  refine zM.ofZ (by decide) (zcr (zci (zci (zci zcn)))) (Nat.le_of_ble_eq_true rfl) ?_
  intro p e s m below meth c C hr hnm
  have C : zC D n0 p s m meth c b_V_scan 8 "LayerVault" := C
  refine z_eqL (L' := [some (zv n0 a0), some (zi a1), some (zi a2), some (zi a3), none, none, none, none]) rfl ?_
  unfold f_V_scan at hf
  have hf := (zif hf).2
  refine z_aload_n C d_V_scan_0 rfl (z_pc (pc' := 1) rfl ?_)
  refine z_iload_n C d_V_scan_1 rfl (z_pc (pc' := 2) rfl ?_)
  obtain ⟨x3, M2, h1, hf⟩ := zb2_inv hf
  refine z_callV C [zi a1] [] kv_V_332 (c_V_isSnapshot D n0 l h1) (e_V_isSnapshot h1) ⟨(Nat.le_of_ble_eq_true rfl), (Nat.le_of_ble_eq_true rfl)⟩ (Nat.le_of_ble_eq_true rfl) ⟨(Nat.le_of_ble_eq_true rfl), (Nat.le_of_ble_eq_true rfl)⟩ d_V_scan_2 (z_pc (pc' := 5) rfl ?_)
  refine z_if_eq (tgt := 12) C d_V_scan_5 (by decide) (fun c4 => ?_) (fun c4 => z_pc (pc' := 8) rfl ?_)
  · have hf := zpos c4 hf
    refine z_iconst C d_V_scan_12 (z_pc (pc' := 13) rfl ?_)
    exact z_iret C hr (Nat.le_of_ble_eq_true rfl) (Nat.le_of_ble_eq_true rfl) d_V_scan_13 hf
  · have hf := zneg c4 hf
    refine z_iload_n C d_V_scan_8 rfl (z_pc (pc' := 9) rfl ?_)
    refine z_if_ge (tgt := 14) C d_V_scan_9 (by decide) (fun c5 => ?_) (fun c5 => z_pc (pc' := 12) rfl ?_)
    · have hf := zpos c5 hf
      refine z_aload_n C d_V_scan_14 rfl (z_pc (pc' := 15) rfl ?_)
      refine z_iload_n C d_V_scan_15 rfl (z_pc (pc' := 16) rfl ?_)
      obtain ⟨x8, M7, h6, hf⟩ := zb2_inv hf
      refine z_callV C [zi a1] [] kv_V_318 (c_V_sees D n0 l h6) (e_V_sees h6) ⟨(Nat.le_of_ble_eq_true rfl), (Nat.le_of_ble_eq_true rfl)⟩ (Nat.le_of_ble_eq_true rfl) ⟨(Nat.le_of_ble_eq_true rfl), (Nat.le_of_ble_eq_true rfl)⟩ d_V_scan_16 (z_pc (pc' := 19) rfl ?_)
      refine z_istore C d_V_scan_19 (by decide) (z_pl (pc' := 21) (L' := [some (zv n0 a0), some (zi a1), some (zi a2), some (zi a3), some (zi x8), none, none, none]) rfl rfl ?_)
      refine z_aload_n C d_V_scan_21 rfl (z_pc (pc' := 22) rfl ?_)
      obtain ⟨x9, h10, hf⟩ := zbind hf
      refine z_getr C fl_V_61 rfl h10 d_V_scan_22 (z_pc (pc' := 25) rfl ?_)
      refine z_iconst C d_V_scan_25 (z_pc (pc' := 26) rfl ?_)
      obtain ⟨M11, h12, hf⟩ := zbind hf
      refine z_puti C fp_V_237 (by decide) rfl h12 d_V_scan_26 (z_pc (pc' := 29) rfl ?_)
      refine z_aload_n C d_V_scan_29 rfl (z_pc (pc' := 30) rfl ?_)
      obtain ⟨x13, h14, hf⟩ := zbind hf
      refine z_getr C fl_V_42 rfl h14 d_V_scan_30 (z_pc (pc' := 33) rfl ?_)
      refine z_iload_n C d_V_scan_33 rfl (z_pc (pc' := 34) rfl ?_)
      obtain ⟨M16, h15, hf⟩ := zbind hf
      refine z_callV C [zi a2] [] kv_V_266 (c_Mt_begin D n0 l h15) (e_Mt_begin h15) ⟨(Nat.le_of_ble_eq_true rfl), (Nat.le_of_ble_eq_true rfl)⟩ (Nat.le_of_ble_eq_true rfl) ⟨(Nat.le_of_ble_eq_true rfl), (Nat.le_of_ble_eq_true rfl)⟩ d_V_scan_34 (z_pc (pc' := 37) rfl ?_)
      refine z_aload_n C d_V_scan_37 rfl (z_pc (pc' := 38) rfl ?_)
      obtain ⟨x17, h18, hf⟩ := zbind hf
      refine z_getr C fl_V_61 rfl h18 d_V_scan_38 (z_pc (pc' := 41) rfl ?_)
      refine z_aload_n C d_V_scan_41 rfl (z_pc (pc' := 42) rfl ?_)
      obtain ⟨x19, h20, hf⟩ := zbind hf
      refine z_getr C fl_V_42 rfl h20 d_V_scan_42 (z_pc (pc' := 45) rfl ?_)
      obtain ⟨M22, h21, hf⟩ := zbind hf
      refine z_callV C [zv n0 x19] [] kv_V_231 (c_Mg_add D n0 l h21) (e_Mg_add h21) ⟨(Nat.le_of_ble_eq_true rfl), (Nat.le_of_ble_eq_true rfl)⟩ (Nat.le_of_ble_eq_true rfl) ⟨(Nat.le_of_ble_eq_true rfl), (Nat.le_of_ble_eq_true rfl)⟩ d_V_scan_45 (z_pc (pc' := 48) rfl ?_)
      refine z_iconst C d_V_scan_48 (z_pc (pc' := 49) rfl ?_)
      refine z_istore C d_V_scan_49 (by decide) (z_pl (pc' := 51) (L' := [some (zv n0 a0), some (zi a1), some (zi a2), some (zi a3), some (zi x8), some (zi 0), none, none]) rfl rfl ?_)
      refine z_sub2 (w_V_scan_L51 C hr ?_ _ _ _ hf) (And.intro rfl (And.intro rfl (And.intro rfl (And.intro rfl (And.intro rfl trivial)))))
      intro M26 hf
      refine z_iload_n C d_V_scan_70 rfl (z_pc (pc' := 71) rfl ?_)
      refine z_istore C d_V_scan_71 (by decide) (z_pl (pc' := 73) (L' := [some (zv n0 a0), none, none, some (zi a3), some (zi x8), some (zi a3), none, none]) rfl rfl ?_)
      refine z_iconst C d_V_scan_73 (z_pc (pc' := 74) rfl ?_)
      refine z_istore C d_V_scan_74 (by decide) (z_pl (pc' := 76) (L' := [some (zv n0 a0), none, none, some (zi a3), some (zi x8), some (zi a3), some (zi (-1)), none]) rfl rfl ?_)
      refine z_aload_n C d_V_scan_76 rfl (z_pc (pc' := 77) rfl ?_)
      obtain ⟨x27, h28, hf⟩ := zbind hf
      refine z_getr C fl_V_61 rfl h28 d_V_scan_77 (z_pc (pc' := 80) rfl ?_)
      obtain ⟨x31, M30, h29, hf⟩ := zb2_inv hf
      refine z_callV C [] [] kv_V_338 (c_Mg_look D n0 l h29) (e_Mg_look h29) ⟨(Nat.le_of_ble_eq_true rfl), (Nat.le_of_ble_eq_true rfl)⟩ (Nat.le_of_ble_eq_true rfl) ⟨(Nat.le_of_ble_eq_true rfl), (Nat.le_of_ble_eq_true rfl)⟩ d_V_scan_80 (z_pc (pc' := 83) rfl ?_)
      refine z_astore C d_V_scan_83 (by decide) (z_pl (pc' := 85) (L' := [some (zv n0 a0), none, none, some (zi a3), some (zi x8), some (zi a3), some (zi (-1)), some (zv n0 x31)]) rfl rfl ?_)
      refine z_sub2 (w_V_scan_L85 C hr ?_ _ _ _ _ _ hf) (And.intro rfl (And.intro rfl (And.intro rfl (And.intro rfl (And.intro rfl trivial)))))
      intro M116 hf
      refine z_bipush C d_V_scan_181 (by decide) (z_pc (pc' := 183) rfl ?_)
      exact z_iret C hr (Nat.le_of_ble_eq_true rfl) (Nat.le_of_ble_eq_true rfl) d_V_scan_183 hf
    · have hf := zneg c5 hf
      refine z_iconst C d_V_scan_12 (z_pc (pc' := 13) rfl ?_)
      exact z_iret C hr (Nat.le_of_ble_eq_true rfl) (Nat.le_of_ble_eq_true rfl) d_V_scan_13 hf
theorem e_V_probes {a0 : Nat} {M : zHp} {q : Int × zHp} (hf : f_V_probes a0 M = some q) : zk M a0 = 0 := by
  unfold f_V_probes at hf
  exact (zif hf).1
set_option maxHeartbeats 4000000 in
set_option maxRecDepth 100000 in
theorem c_V_probes (D : va_G) (n0 : Nat) (l : Launch) {a0 : Nat} {M : zHp} {r : Int} {M' : zHp} (hf : f_V_probes a0 M = some (r, M')) : zM D n0 l y_V_probes b_V_probes 1 (some .int) 0 0 0 0 [zv n0 a0] M (some (zi r)) M' := by
  refine zM.ofZ (by decide) (zcr zcn) (Nat.le_of_ble_eq_true rfl) ?_
  intro p e s m below meth c C hr hnm
  have C : zC D n0 p s m meth c b_V_probes 1 "LayerVault" := C
  refine z_eqL (L' := [some (zv n0 a0)]) rfl ?_
  unfold f_V_probes at hf
  have hf := (zif hf).2
  refine z_aload_n C d_V_probes_0 rfl (z_pc (pc' := 1) rfl ?_)
  obtain ⟨x1, h2, hf⟩ := zbind hf
  refine z_geti C fl_V_321 h2 d_V_probes_1 (z_pc (pc' := 4) rfl ?_)
  exact z_iret C hr (Nat.le_of_ble_eq_true rfl) (Nat.le_of_ble_eq_true rfl) d_V_probes_4 hf
set_option maxHeartbeats 4000000 in
set_option maxRecDepth 100000 in
theorem w_V_table_L138 {D : va_G} {n0 : Nat} {l : Launch} {p : Program} {e : Env} {s : State} {m : MethodId} {args : Array Value} {below : List Frame} {meth : Method} {c : Code} {a5 : Nat} {r : Int} {M' : zHp} {κ : Int → zHp → Option (Int × zHp)} (C : zC D n0 p s m meth c b_V_table 8 "LayerVault") (hr : meth.sig.returnType = (some .int))
    (hκ : ∀ (u6 : Int) (M1 : zHp), κ u6 M1 = some (r, M') → zZ D n0 p l e { frames := 1, cells := 0, slots := 0, locals := 21 } s m args below meth c 8 0 0 (MQ below (zQc D n0 (some (zi r)) M') args s 0 0 (fun q => n0 ≤ q)) 172 [none, none, none, none, none, none, some (zi u6), none] [] M1) :
    ∀ (n : Nat) (v6 : Int) (v7 : Int) (M : zHp), f_V_table_L138 κ a5 n v6 v7 M = some (r, M') → zZ D n0 p l e { frames := 1, cells := 0, slots := 0, locals := 21 } s m args below meth c 8 0 0 (MQ below (zQc D n0 (some (zi r)) M') args s 0 0 (fun q => n0 ≤ q)) 138 [none, none, none, none, none, some (zv n0 a5), some (zi v6), some (zi v7)] [] M := by
  intro n
  induction n with
  | zero =>
    intro v6 v7 M hf
    exact absurd hf (by unfold f_V_table_L138; simp)
  | succ n ih =>
    intro v6 v7 M hf
    unfold f_V_table_L138 at hf
    refine z_iload C d_V_table_138 rfl (z_pc (pc' := 140) rfl ?_)
    refine z_aload C d_V_table_140 rfl (z_pc (pc' := 142) rfl ?_)
    obtain ⟨x39, h40, hf⟩ := zbind hf
    refine z_geti C fl_V_209 h40 d_V_table_142 (z_pc (pc' := 145) rfl ?_)
    refine z_icmp_ge (tgt := 172) C d_V_table_145 (by decide) (fun c41 => ?_) (fun c41 => z_pc (pc' := 148) rfl ?_)
    · have hf := zpos c41 hf
      exact z_sub2 (hκ _ _ hf) (And.intro rfl trivial)
    · have hf := zneg c41 hf
      refine z_iload C d_V_table_148 rfl (z_pc (pc' := 150) rfl ?_)
      refine z_aload C d_V_table_150 rfl (z_pc (pc' := 152) rfl ?_)
      obtain ⟨x42, h43, hf⟩ := zbind hf
      refine z_getr C fl_V_272 rfl h43 d_V_table_152 (z_pc (pc' := 155) rfl ?_)
      refine z_iload C d_V_table_155 rfl (z_pc (pc' := 157) rfl ?_)
      obtain ⟨x44, h45, hf⟩ := zbind hf
      refine z_aald C (by decide) h45 d_V_table_157 (z_pc (pc' := 158) rfl ?_)
      obtain ⟨x46, h47, hf⟩ := zbind hf
      refine z_geti C fl_V_163 h47 d_V_table_158 (z_pc (pc' := 161) rfl ?_)
      refine z_mmax C km_V_304 km_st_max km_ini km_code_max ⟨(Nat.le_of_ble_eq_true rfl), (Nat.le_of_ble_eq_true rfl)⟩ (Nat.le_of_ble_eq_true rfl) ⟨(Nat.le_of_ble_eq_true rfl), (Nat.le_of_ble_eq_true rfl)⟩ d_V_table_161 (z_pc (pc' := 164) rfl ?_)
      refine z_istore C d_V_table_164 (by decide) (z_pl (pc' := 166) (L' := [none, none, none, none, none, some (zv n0 a5), some (zi (zmax v6 x46)), some (zi v7)]) rfl rfl ?_)
      refine z_iinc C d_V_table_166 rfl (by decide) (z_pl (pc' := 169) (L' := [none, none, none, none, none, some (zv n0 a5), some (zi (zmax v6 x46)), some (zi (zadd v7 1))]) rfl rfl ?_)
      refine z_goto (tgt := 138) C d_V_table_169 (by decide) ?_
      exact z_sub2 (ih _ _ _ hf) (And.intro rfl (And.intro rfl (And.intro rfl trivial)))
theorem e_V_table {a0 : Nat} {a1 : Int} {a2 : Int} {a3 : Int} {M : zHp} {q : Int × zHp} (hf : f_V_table a0 a1 a2 a3 M = some q) : zk M a0 = 0 := by
  unfold f_V_table at hf
  exact (zif hf).1
set_option maxHeartbeats 4000000 in
set_option maxRecDepth 100000 in
theorem c_V_table (D : va_G) (n0 : Nat) (l : Launch) {a0 : Nat} {a1 : Int} {a2 : Int} {a3 : Int} {M : zHp} {r : Int} {M' : zHp} (hf : f_V_table a0 a1 a2 a3 M = some (r, M')) : zM D n0 l y_V_table b_V_table 8 (some .int) 1 21 0 0 [zv n0 a0, zi a1, zi a2, zi a3] M (some (zi r)) M' := by
  refine zM.ofZ (by decide) (zcr (zci (zci (zci zcn)))) (Nat.le_of_ble_eq_true rfl) ?_
  intro p e s m below meth c C hr hnm
  have C : zC D n0 p s m meth c b_V_table 8 "LayerVault" := C
  refine z_eqL (L' := [some (zv n0 a0), some (zi a1), some (zi a2), some (zi a3), none, none, none, none]) rfl ?_
  unfold f_V_table at hf
  have hf := (zif hf).2
  refine z_iload_n C d_V_table_0 rfl (z_pc (pc' := 1) rfl ?_)
  refine z_if_lt (tgt := 9) C d_V_table_1 (by decide) (fun c1 => ?_) (fun c1 => z_pc (pc' := 4) rfl ?_)
  · have hf := zpos c1 hf
    refine z_bipush C d_V_table_9 (by decide) (z_pc (pc' := 11) rfl ?_)
    exact z_iret C hr (Nat.le_of_ble_eq_true rfl) (Nat.le_of_ble_eq_true rfl) d_V_table_11 hf
  · have hf := zneg c1 hf
    refine z_iload_n C d_V_table_4 rfl (z_pc (pc' := 5) rfl ?_)
    refine z_iconst C d_V_table_5 (z_pc (pc' := 6) rfl ?_)
    refine z_icmp_lt (tgt := 12) C d_V_table_6 (by decide) (fun c2 => ?_) (fun c2 => z_pc (pc' := 9) rfl ?_)
    · have hf := zpos c2 hf
      refine z_aload_n C d_V_table_12 rfl (z_pc (pc' := 13) rfl ?_)
      obtain ⟨x3, h4, hf⟩ := zbind hf
      refine z_getr C fl_V_48 rfl h4 d_V_table_13 (z_pc (pc' := 16) rfl ?_)
      refine z_iload_n C d_V_table_16 rfl (z_pc (pc' := 17) rfl ?_)
      obtain ⟨x5, h6, hf⟩ := zbind hf
      refine z_aald C (by decide) h6 d_V_table_17 (z_pc (pc' := 18) rfl ?_)
      refine z_astore C d_V_table_18 (by decide) (z_pl (pc' := 20) (L' := [some (zv n0 a0), some (zi a1), some (zi a2), some (zi a3), some (zv n0 x5), none, none, none]) rfl rfl ?_)
      refine z_iload_n C d_V_table_20 rfl (z_pc (pc' := 21) rfl ?_)
      refine z_iconst C d_V_table_21 (z_pc (pc' := 22) rfl ?_)
      refine z_icmp_ne (tgt := 31) C d_V_table_22 (by decide) (fun c7 => ?_) (fun c7 => z_pc (pc' := 25) rfl ?_)
      · have hf := zneg c7 hf
        refine z_iload_n C d_V_table_31 rfl (z_pc (pc' := 32) rfl ?_)
        refine z_if_lt (tgt := 44) C d_V_table_32 (by decide) (fun c8 => ?_) (fun c8 => z_pc (pc' := 35) rfl ?_)
        · have hf := zpos c8 hf
          refine z_bipush C d_V_table_44 (by decide) (z_pc (pc' := 46) rfl ?_)
          exact z_iret C hr (Nat.le_of_ble_eq_true rfl) (Nat.le_of_ble_eq_true rfl) d_V_table_46 hf
        · have hf := zneg c8 hf
          refine z_iload_n C d_V_table_35 rfl (z_pc (pc' := 36) rfl ?_)
          refine z_aload C d_V_table_36 rfl (z_pc (pc' := 38) rfl ?_)
          obtain ⟨x9, h10, hf⟩ := zbind hf
          refine z_geti C fl_V_213 h10 d_V_table_38 (z_pc (pc' := 41) rfl ?_)
          refine z_icmp_lt (tgt := 47) C d_V_table_41 (by decide) (fun c11 => ?_) (fun c11 => z_pc (pc' := 44) rfl ?_)
          · have hf := zpos c11 hf
            refine z_aload C d_V_table_47 rfl (z_pc (pc' := 49) rfl ?_)
            obtain ⟨x12, h13, hf⟩ := zbind hf
            refine z_getr C fl_V_214 rfl h13 d_V_table_49 (z_pc (pc' := 52) rfl ?_)
            refine z_iload_n C d_V_table_52 rfl (z_pc (pc' := 53) rfl ?_)
            obtain ⟨x14, h15, hf⟩ := zbind hf
            refine z_aald C (by decide) h15 d_V_table_53 (z_pc (pc' := 54) rfl ?_)
            refine z_astore C d_V_table_54 (by decide) (z_pl (pc' := 56) (L' := [some (zv n0 a0), some (zi a1), some (zi a2), some (zi a3), some (zv n0 x5), some (zv n0 x14), none, none]) rfl rfl ?_)
            refine z_iload_n C d_V_table_56 rfl (z_pc (pc' := 57) rfl ?_)
            by_cases c16 : zeq a3 0
            · have hf := zpos c16 hf
              refine z_tswK (tgt := 92) (off := 35) C 0 d_V_table_57 c16 (by decide) (by decide) (by decide +kernel) (by decide) ?_
              refine z_aload C d_V_table_92 rfl (z_pc (pc' := 94) rfl ?_)
              obtain ⟨x17, h18, hf⟩ := zbind hf
              refine z_geti C fl_V_209 h18 d_V_table_94 (z_pc (pc' := 97) rfl ?_)
              exact z_iret C hr (Nat.le_of_ble_eq_true rfl) (Nat.le_of_ble_eq_true rfl) d_V_table_97 hf
            · have hf := zneg c16 hf
              by_cases c19 : zeq a3 1
              · have hf := zpos c19 hf
                refine z_tswK (tgt := 98) (off := 41) C 1 d_V_table_57 c19 (by decide) (by decide) (by decide +kernel) (by decide) ?_
                refine z_aload C d_V_table_98 rfl (z_pc (pc' := 100) rfl ?_)
                obtain ⟨x20, h21, hf⟩ := zbind hf
                refine z_geti C fl_V_210 h21 d_V_table_100 (z_pc (pc' := 103) rfl ?_)
                exact z_iret C hr (Nat.le_of_ble_eq_true rfl) (Nat.le_of_ble_eq_true rfl) d_V_table_103 hf
              · have hf := zneg c19 hf
                by_cases c22 : zeq a3 2
                · have hf := zpos c22 hf
                  refine z_tswK (tgt := 104) (off := 47) C 2 d_V_table_57 c22 (by decide) (by decide) (by decide +kernel) (by decide) ?_
                  refine z_aload C d_V_table_104 rfl (z_pc (pc' := 106) rfl ?_)
                  obtain ⟨x23, h24, hf⟩ := zbind hf
                  refine z_getr C fl_V_272 rfl h24 d_V_table_106 (z_pc (pc' := 109) rfl ?_)
                  refine z_iconst C d_V_table_109 (z_pc (pc' := 110) rfl ?_)
                  obtain ⟨x25, h26, hf⟩ := zbind hf
                  refine z_aald C (by decide) h26 d_V_table_110 (z_pc (pc' := 111) rfl ?_)
                  obtain ⟨x27, h28, hf⟩ := zbind hf
                  refine z_geti C fl_V_156 h28 d_V_table_111 (z_pc (pc' := 114) rfl ?_)
                  exact z_iret C hr (Nat.le_of_ble_eq_true rfl) (Nat.le_of_ble_eq_true rfl) d_V_table_114 hf
                · have hf := zneg c22 hf
                  by_cases c29 : zeq a3 3
                  · have hf := zpos c29 hf
                    refine z_tswK (tgt := 115) (off := 58) C 3 d_V_table_57 c29 (by decide) (by decide) (by decide +kernel) (by decide) ?_
                    refine z_aload C d_V_table_115 rfl (z_pc (pc' := 117) rfl ?_)
                    obtain ⟨x30, h31, hf⟩ := zbind hf
                    refine z_getr C fl_V_272 rfl h31 d_V_table_117 (z_pc (pc' := 120) rfl ?_)
                    refine z_aload C d_V_table_120 rfl (z_pc (pc' := 122) rfl ?_)
                    obtain ⟨x32, h33, hf⟩ := zbind hf
                    refine z_geti C fl_V_209 h33 d_V_table_122 (z_pc (pc' := 125) rfl ?_)
                    refine z_iconst C d_V_table_125 (z_pc (pc' := 126) rfl ?_)
                    refine z_isub C d_V_table_126 (z_pc (pc' := 127) rfl ?_)
                    obtain ⟨x34, h35, hf⟩ := zbind hf
                    refine z_aald C (by decide) h35 d_V_table_127 (z_pc (pc' := 128) rfl ?_)
                    obtain ⟨x36, h37, hf⟩ := zbind hf
                    refine z_geti C fl_V_156 h37 d_V_table_128 (z_pc (pc' := 131) rfl ?_)
                    exact z_iret C hr (Nat.le_of_ble_eq_true rfl) (Nat.le_of_ble_eq_true rfl) d_V_table_131 hf
                  · have hf := zneg c29 hf
                    by_cases c38 : zeq a3 4
                    · have hf := zpos c38 hf
                      refine z_tswK (tgt := 132) (off := 75) C 4 d_V_table_57 c38 (by decide) (by decide) (by decide +kernel) (by decide) ?_
                      refine z_iconst C d_V_table_132 (z_pc (pc' := 133) rfl ?_)
                      refine z_istore C d_V_table_133 (by decide) (z_pl (pc' := 135) (L' := [some (zv n0 a0), some (zi a1), some (zi a2), some (zi a3), some (zv n0 x5), some (zv n0 x14), some (zi 0), none]) rfl rfl ?_)
                      refine z_iconst C d_V_table_135 (z_pc (pc' := 136) rfl ?_)
                      refine z_istore C d_V_table_136 (by decide) (z_pl (pc' := 138) (L' := [some (zv n0 a0), some (zi a1), some (zi a2), some (zi a3), some (zv n0 x5), some (zv n0 x14), some (zi 0), some (zi 0)]) rfl rfl ?_)
                      refine z_sub2 (w_V_table_L138 C hr ?_ _ _ _ _ hf) (And.intro rfl (And.intro rfl (And.intro rfl trivial)))
                      intro v48 M49 hf
                      refine z_iload C d_V_table_172 rfl (z_pc (pc' := 174) rfl ?_)
                      exact z_iret C hr (Nat.le_of_ble_eq_true rfl) (Nat.le_of_ble_eq_true rfl) d_V_table_174 hf
                    · have hf := zneg c38 hf
                      refine z_tswD (tgt := 175) C d_V_table_57 (fun t t1 t2 => by rcases (show t = 0 ∨ t = 1 ∨ t = 2 ∨ t = 3 ∨ t = 4 by omega) with rfl | rfl | rfl | rfl | rfl <;> assumption) (by decide) ?_
                      refine z_bipush C d_V_table_175 (by decide) (z_pc (pc' := 177) rfl ?_)
                      exact z_iret C hr (Nat.le_of_ble_eq_true rfl) (Nat.le_of_ble_eq_true rfl) d_V_table_177 hf
          · have hf := zneg c11 hf
            refine z_bipush C d_V_table_44 (by decide) (z_pc (pc' := 46) rfl ?_)
            exact z_iret C hr (Nat.le_of_ble_eq_true rfl) (Nat.le_of_ble_eq_true rfl) d_V_table_46 hf
      · have hf := zpos c7 hf
        refine z_aload C d_V_table_25 rfl (z_pc (pc' := 27) rfl ?_)
        obtain ⟨x50, h51, hf⟩ := zbind hf
        refine z_geti C fl_V_213 h51 d_V_table_27 (z_pc (pc' := 30) rfl ?_)
        exact z_iret C hr (Nat.le_of_ble_eq_true rfl) (Nat.le_of_ble_eq_true rfl) d_V_table_30 hf
    · have hf := zneg c2 hf
      refine z_bipush C d_V_table_9 (by decide) (z_pc (pc' := 11) rfl ?_)
      exact z_iret C hr (Nat.le_of_ble_eq_true rfl) (Nat.le_of_ble_eq_true rfl) d_V_table_11 hf
set_option maxHeartbeats 4000000 in
set_option maxRecDepth 100000 in
theorem w_V_segment_L26 {D : va_G} {n0 : Nat} {l : Launch} {p : Program} {e : Env} {s : State} {m : MethodId} {args : Array Value} {below : List Frame} {meth : Method} {c : Code} {a1 : Int} {a2 : Int} {r : Int} {M' : zHp} {κ : Nat → zHp → Option (Int × zHp)} (C : zC D n0 p s m meth c b_V_segment 5 "LayerVault") (hr : meth.sig.returnType = (some .int))
    (hκ : ∀ (u3 : Nat) (M1 : zHp), κ u3 M1 = some (r, M') → zZ D n0 p l e { frames := 0, cells := 0, slots := 0, locals := 0 } s m args below meth c 5 0 0 (MQ below (zQc D n0 (some (zi r)) M') args s 0 0 (fun q => n0 ≤ q)) 47 [none, none, some (zi a2), some (zv n0 u3), none] [] M1) :
    ∀ (n : Nat) (v3 : Nat) (v4 : Int) (M : zHp), f_V_segment_L26 κ a1 n v3 v4 M = some (r, M') → zZ D n0 p l e { frames := 0, cells := 0, slots := 0, locals := 0 } s m args below meth c 5 0 0 (MQ below (zQc D n0 (some (zi r)) M') args s 0 0 (fun q => n0 ≤ q)) 26 [none, some (zi a1), some (zi a2), some (zv n0 v3), some (zi v4)] [] M := by
  intro n
  induction n with
  | zero =>
    intro v3 v4 M hf
    exact absurd hf (by unfold f_V_segment_L26; simp)
  | succ n ih =>
    intro v3 v4 M hf
    unfold f_V_segment_L26 at hf
    refine z_iload C d_V_segment_26 rfl (z_pc (pc' := 28) rfl ?_)
    refine z_iload_n C d_V_segment_28 rfl (z_pc (pc' := 29) rfl ?_)
    refine z_icmp_ge (tgt := 47) C d_V_segment_29 (by decide) (fun c5 => ?_) (fun c5 => z_pc (pc' := 32) rfl ?_)
    · have hf := zpos c5 hf
      exact z_sub2 (hκ _ _ hf) (And.intro rfl (And.intro rfl trivial))
    · have hf := zneg c5 hf
      refine z_aload_n C d_V_segment_32 rfl (z_pc (pc' := 33) rfl ?_)
      refine z_ifnull (tgt := 47) C d_V_segment_33 (by decide) (fun c6 => ?_) (fun c6 => (z_pc (pc' := 36) rfl ?_))
      · have hf := zpos c6 hf
        exact z_sub2 (hκ _ _ hf) (And.intro rfl (And.intro rfl trivial))
      · have hf := zneg c6 hf
        refine z_aload_n C d_V_segment_36 rfl (z_pc (pc' := 37) rfl ?_)
        obtain ⟨x7, h8, hf⟩ := zbind hf
        refine z_getr C fl_V_85 rfl h8 d_V_segment_37 (z_pc (pc' := 40) rfl ?_)
        refine z_astore_n C d_V_segment_40 (by decide) (z_pl (pc' := 41) (L' := [none, some (zi a1), some (zi a2), some (zv n0 x7), some (zi v4)]) rfl rfl ?_)
        refine z_iinc C d_V_segment_41 rfl (by decide) (z_pl (pc' := 44) (L' := [none, some (zi a1), some (zi a2), some (zv n0 x7), some (zi (zadd v4 1))]) rfl rfl ?_)
        refine z_goto (tgt := 26) C d_V_segment_44 (by decide) ?_
        exact z_sub2 (ih _ _ _ hf) (And.intro rfl (And.intro rfl (And.intro rfl (And.intro rfl trivial))))
theorem e_V_segment {a0 : Nat} {a1 : Int} {a2 : Int} {M : zHp} {q : Int × zHp} (hf : f_V_segment a0 a1 a2 M = some q) : zk M a0 = 0 := by
  unfold f_V_segment at hf
  exact (zif hf).1
set_option maxHeartbeats 4000000 in
set_option maxRecDepth 100000 in
theorem c_V_segment (D : va_G) (n0 : Nat) (l : Launch) {a0 : Nat} {a1 : Int} {a2 : Int} {M : zHp} {r : Int} {M' : zHp} (hf : f_V_segment a0 a1 a2 M = some (r, M')) : zM D n0 l y_V_segment b_V_segment 5 (some .int) 0 0 0 0 [zv n0 a0, zi a1, zi a2] M (some (zi r)) M' := by
  refine zM.ofZ (by decide) (zcr (zci (zci zcn))) (Nat.le_of_ble_eq_true rfl) ?_
  intro p e s m below meth c C hr hnm
  have C : zC D n0 p s m meth c b_V_segment 5 "LayerVault" := C
  refine z_eqL (L' := [some (zv n0 a0), some (zi a1), some (zi a2), none, none]) rfl ?_
  unfold f_V_segment at hf
  have hf := (zif hf).2
  refine z_iload_n C d_V_segment_0 rfl (z_pc (pc' := 1) rfl ?_)
  refine z_iconst C d_V_segment_1 (z_pc (pc' := 2) rfl ?_)
  refine z_icmp_ne (tgt := 10) C d_V_segment_2 (by decide) (fun c1 => ?_) (fun c1 => z_pc (pc' := 5) rfl ?_)
  · have hf := zneg c1 hf
    refine z_iload_n C d_V_segment_10 rfl (z_pc (pc' := 11) rfl ?_)
    refine z_if_ge (tgt := 18) C d_V_segment_11 (by decide) (fun c2 => ?_) (fun c2 => z_pc (pc' := 14) rfl ?_)
    · have hf := zpos c2 hf
      refine z_aload_n C d_V_segment_18 rfl (z_pc (pc' := 19) rfl ?_)
      obtain ⟨x3, h4, hf⟩ := zbind hf
      refine z_getr C fl_V_10 rfl h4 d_V_segment_19 (z_pc (pc' := 22) rfl ?_)
      refine z_astore_n C d_V_segment_22 (by decide) (z_pl (pc' := 23) (L' := [some (zv n0 a0), some (zi a1), some (zi a2), some (zv n0 x3), none]) rfl rfl ?_)
      refine z_iconst C d_V_segment_23 (z_pc (pc' := 24) rfl ?_)
      refine z_istore C d_V_segment_24 (by decide) (z_pl (pc' := 26) (L' := [some (zv n0 a0), some (zi a1), some (zi a2), some (zv n0 x3), some (zi 0)]) rfl rfl ?_)
      refine z_sub2 (w_V_segment_L26 C hr ?_ _ _ _ _ hf) (And.intro rfl (And.intro rfl (And.intro rfl (And.intro rfl trivial))))
      intro v9 M10 hf
      refine z_aload_n C d_V_segment_47 rfl (z_pc (pc' := 48) rfl ?_)
      refine z_ifnonnull (tgt := 54) C d_V_segment_48 (by decide) (fun c11 => ?_) (fun c11 => (z_pc (pc' := 51) rfl ?_))
      · have hf := zneg c11 hf
        refine z_iload_n C d_V_segment_54 rfl (z_pc (pc' := 55) rfl ?_)
        refine z_if_ne (tgt := 65) C d_V_segment_55 (by decide) (fun c12 => ?_) (fun c12 => z_pc (pc' := 58) rfl ?_)
        · have hf := zneg c12 hf
          refine z_iload_n C d_V_segment_65 rfl (z_pc (pc' := 66) rfl ?_)
          refine z_iconst C d_V_segment_66 (z_pc (pc' := 67) rfl ?_)
          refine z_icmp_ne (tgt := 77) C d_V_segment_67 (by decide) (fun c13 => ?_) (fun c13 => z_pc (pc' := 70) rfl ?_)
          · have hf := zneg c13 hf
            refine z_iload_n C d_V_segment_77 rfl (z_pc (pc' := 78) rfl ?_)
            refine z_iconst C d_V_segment_78 (z_pc (pc' := 79) rfl ?_)
            refine z_icmp_ne (tgt := 89) C d_V_segment_79 (by decide) (fun c14 => ?_) (fun c14 => z_pc (pc' := 82) rfl ?_)
            · have hf := zneg c14 hf
              refine z_bipush C d_V_segment_89 (by decide) (z_pc (pc' := 91) rfl ?_)
              exact z_iret C hr (Nat.le_of_ble_eq_true rfl) (Nat.le_of_ble_eq_true rfl) d_V_segment_91 hf
            · have hf := zpos c14 hf
              refine z_aload_n C d_V_segment_82 rfl (z_pc (pc' := 83) rfl ?_)
              obtain ⟨x15, h16, hf⟩ := zbind hf
              refine z_geti C fl_V_287 h16 d_V_segment_83 (z_pc (pc' := 86) rfl ?_)
              refine z_goto (tgt := 91) C d_V_segment_86 (by decide) ?_
              exact z_iret C hr (Nat.le_of_ble_eq_true rfl) (Nat.le_of_ble_eq_true rfl) d_V_segment_91 hf
          · have hf := zpos c13 hf
            refine z_aload_n C d_V_segment_70 rfl (z_pc (pc' := 71) rfl ?_)
            obtain ⟨x17, h18, hf⟩ := zbind hf
            refine z_geti C fl_V_79 h18 d_V_segment_71 (z_pc (pc' := 74) rfl ?_)
            refine z_goto (tgt := 91) C d_V_segment_74 (by decide) ?_
            exact z_iret C hr (Nat.le_of_ble_eq_true rfl) (Nat.le_of_ble_eq_true rfl) d_V_segment_91 hf
        · have hf := zpos c12 hf
          refine z_aload_n C d_V_segment_58 rfl (z_pc (pc' := 59) rfl ?_)
          obtain ⟨x19, h20, hf⟩ := zbind hf
          refine z_geti C fl_V_88 h20 d_V_segment_59 (z_pc (pc' := 62) rfl ?_)
          refine z_goto (tgt := 91) C d_V_segment_62 (by decide) ?_
          exact z_iret C hr (Nat.le_of_ble_eq_true rfl) (Nat.le_of_ble_eq_true rfl) d_V_segment_91 hf
      · have hf := zpos c11 hf
        refine z_bipush C d_V_segment_51 (by decide) (z_pc (pc' := 53) rfl ?_)
        exact z_iret C hr (Nat.le_of_ble_eq_true rfl) (Nat.le_of_ble_eq_true rfl) d_V_segment_53 hf
    · have hf := zneg c2 hf
      refine z_null C d_V_segment_14 (z_pc (pc' := 15) rfl ?_)
      refine z_goto (tgt := 22) C d_V_segment_15 (by decide) ?_
      refine z_astore_n C d_V_segment_22 (by decide) (z_pl (pc' := 23) (L' := [some (zv n0 a0), some (zi a1), some (zi a2), some (zv n0 0), none]) rfl rfl ?_)
      refine z_iconst C d_V_segment_23 (z_pc (pc' := 24) rfl ?_)
      refine z_istore C d_V_segment_24 (by decide) (z_pl (pc' := 26) (L' := [some (zv n0 a0), some (zi a1), some (zi a2), some (zv n0 0), some (zi 0)]) rfl rfl ?_)
      refine z_sub2 (w_V_segment_L26 C hr ?_ _ _ _ _ hf) (And.intro rfl (And.intro rfl (And.intro rfl (And.intro rfl trivial))))
      intro v21 M22 hf
      refine z_aload_n C d_V_segment_47 rfl (z_pc (pc' := 48) rfl ?_)
      refine z_ifnonnull (tgt := 54) C d_V_segment_48 (by decide) (fun c23 => ?_) (fun c23 => (z_pc (pc' := 51) rfl ?_))
      · have hf := zneg c23 hf
        refine z_iload_n C d_V_segment_54 rfl (z_pc (pc' := 55) rfl ?_)
        refine z_if_ne (tgt := 65) C d_V_segment_55 (by decide) (fun c24 => ?_) (fun c24 => z_pc (pc' := 58) rfl ?_)
        · have hf := zneg c24 hf
          refine z_iload_n C d_V_segment_65 rfl (z_pc (pc' := 66) rfl ?_)
          refine z_iconst C d_V_segment_66 (z_pc (pc' := 67) rfl ?_)
          refine z_icmp_ne (tgt := 77) C d_V_segment_67 (by decide) (fun c25 => ?_) (fun c25 => z_pc (pc' := 70) rfl ?_)
          · have hf := zneg c25 hf
            refine z_iload_n C d_V_segment_77 rfl (z_pc (pc' := 78) rfl ?_)
            refine z_iconst C d_V_segment_78 (z_pc (pc' := 79) rfl ?_)
            refine z_icmp_ne (tgt := 89) C d_V_segment_79 (by decide) (fun c26 => ?_) (fun c26 => z_pc (pc' := 82) rfl ?_)
            · have hf := zneg c26 hf
              refine z_bipush C d_V_segment_89 (by decide) (z_pc (pc' := 91) rfl ?_)
              exact z_iret C hr (Nat.le_of_ble_eq_true rfl) (Nat.le_of_ble_eq_true rfl) d_V_segment_91 hf
            · have hf := zpos c26 hf
              refine z_aload_n C d_V_segment_82 rfl (z_pc (pc' := 83) rfl ?_)
              obtain ⟨x27, h28, hf⟩ := zbind hf
              refine z_geti C fl_V_287 h28 d_V_segment_83 (z_pc (pc' := 86) rfl ?_)
              refine z_goto (tgt := 91) C d_V_segment_86 (by decide) ?_
              exact z_iret C hr (Nat.le_of_ble_eq_true rfl) (Nat.le_of_ble_eq_true rfl) d_V_segment_91 hf
          · have hf := zpos c25 hf
            refine z_aload_n C d_V_segment_70 rfl (z_pc (pc' := 71) rfl ?_)
            obtain ⟨x29, h30, hf⟩ := zbind hf
            refine z_geti C fl_V_79 h30 d_V_segment_71 (z_pc (pc' := 74) rfl ?_)
            refine z_goto (tgt := 91) C d_V_segment_74 (by decide) ?_
            exact z_iret C hr (Nat.le_of_ble_eq_true rfl) (Nat.le_of_ble_eq_true rfl) d_V_segment_91 hf
        · have hf := zpos c24 hf
          refine z_aload_n C d_V_segment_58 rfl (z_pc (pc' := 59) rfl ?_)
          obtain ⟨x31, h32, hf⟩ := zbind hf
          refine z_geti C fl_V_88 h32 d_V_segment_59 (z_pc (pc' := 62) rfl ?_)
          refine z_goto (tgt := 91) C d_V_segment_62 (by decide) ?_
          exact z_iret C hr (Nat.le_of_ble_eq_true rfl) (Nat.le_of_ble_eq_true rfl) d_V_segment_91 hf
      · have hf := zpos c23 hf
        refine z_bipush C d_V_segment_51 (by decide) (z_pc (pc' := 53) rfl ?_)
        exact z_iret C hr (Nat.le_of_ble_eq_true rfl) (Nat.le_of_ble_eq_true rfl) d_V_segment_53 hf
  · have hf := zpos c1 hf
    refine z_aload_n C d_V_segment_5 rfl (z_pc (pc' := 6) rfl ?_)
    obtain ⟨x33, h34, hf⟩ := zbind hf
    refine z_geti C fl_V_19 h34 d_V_segment_6 (z_pc (pc' := 9) rfl ?_)
    exact z_iret C hr (Nat.le_of_ble_eq_true rfl) (Nat.le_of_ble_eq_true rfl) d_V_segment_9 hf
set_option maxHeartbeats 4000000 in
set_option maxRecDepth 100000 in
theorem w_V_look_L73 {D : va_G} {n0 : Nat} {l : Launch} {p : Program} {e : Env} {s : State} {m : MethodId} {args : Array Value} {below : List Frame} {meth : Method} {c : Code} {a3 : Nat} {a4 : Int} {r : Int} {M' : zHp} {κ : Int → zHp → Option (Int × zHp)} (C : zC D n0 p s m meth c b_V_look 7 "LayerVault") (hr : meth.sig.returnType = (some .int))
    (hκ : ∀ (u2 : Int) (M1 : zHp), κ u2 M1 = some (r, M') → zZ D n0 p l e { frames := 0, cells := 0, slots := 0, locals := 0 } s m args below meth c 7 0 0 (MQ below (zQc D n0 (some (zi r)) M') args s 0 0 (fun q => n0 ≤ q)) 105 [none, none, some (zi u2), none, none, none, none] [] M1) :
    ∀ (n : Nat) (v2 : Int) (v5 : Int) (M : zHp), f_V_look_L73 κ a3 a4 n v2 v5 M = some (r, M') → zZ D n0 p l e { frames := 0, cells := 0, slots := 0, locals := 0 } s m args below meth c 7 0 0 (MQ below (zQc D n0 (some (zi r)) M') args s 0 0 (fun q => n0 ≤ q)) 73 [none, none, some (zi v2), some (zv n0 a3), some (zi a4), some (zi v5), none] [] M := by
  intro n
  induction n with
  | zero =>
    intro v2 v5 M hf
    exact absurd hf (by unfold f_V_look_L73; simp)
  | succ n ih =>
    intro v2 v5 M hf
    unfold f_V_look_L73 at hf
    refine z_iload C d_V_look_73 rfl (z_pc (pc' := 75) rfl ?_)
    refine z_iload C d_V_look_75 rfl (z_pc (pc' := 77) rfl ?_)
    refine z_icmp_ge (tgt := 105) C d_V_look_77 (by decide) (fun c20 => ?_) (fun c20 => z_pc (pc' := 80) rfl ?_)
    · have hf := zpos c20 hf
      exact z_sub2 (hκ _ _ hf) (And.intro rfl trivial)
    · have hf := zneg c20 hf
      refine z_aload_n C d_V_look_80 rfl (z_pc (pc' := 81) rfl ?_)
      refine z_iload C d_V_look_81 rfl (z_pc (pc' := 83) rfl ?_)
      obtain ⟨x21, h22, hf⟩ := zbind hf
      refine z_iald C h22 d_V_look_83 (z_pc (pc' := 84) rfl ?_)
      refine z_istore C d_V_look_84 (by decide) (z_pl (pc' := 86) (L' := [none, none, some (zi v2), some (zv n0 a3), some (zi a4), some (zi v5), some (zi x21)]) rfl rfl ?_)
      refine z_iload_n C d_V_look_86 rfl (z_pc (pc' := 87) rfl ?_)
      refine z_iload C d_V_look_87 rfl (z_pc (pc' := 89) rfl ?_)
      refine z_if_ge (tgt := 96) C d_V_look_89 (by decide) (fun c23 => ?_) (fun c23 => z_pc (pc' := 92) rfl ?_)
      · have hf := zpos c23 hf
        refine z_iconst C d_V_look_96 (z_pc (pc' := 97) rfl ?_)
        refine z_iadd C d_V_look_97 (z_pc (pc' := 98) rfl ?_)
        refine z_istore_n C d_V_look_98 (by decide) (z_pl (pc' := 99) (L' := [none, none, some (zi (zadd v2 1)), some (zv n0 a3), some (zi a4), some (zi v5), some (zi x21)]) rfl rfl ?_)
        refine z_iinc C d_V_look_99 rfl (by decide) (z_pl (pc' := 102) (L' := [none, none, some (zi (zadd v2 1)), some (zv n0 a3), some (zi a4), some (zi (zadd v5 1)), some (zi x21)]) rfl rfl ?_)
        refine z_goto (tgt := 73) C d_V_look_102 (by decide) ?_
        exact z_sub2 (ih _ _ _ hf) (And.intro rfl (And.intro rfl (And.intro rfl (And.intro rfl trivial))))
      · have hf := zneg c23 hf
        refine z_iconst C d_V_look_92 (z_pc (pc' := 93) rfl ?_)
        refine z_goto (tgt := 97) C d_V_look_93 (by decide) ?_
        refine z_iadd C d_V_look_97 (z_pc (pc' := 98) rfl ?_)
        refine z_istore_n C d_V_look_98 (by decide) (z_pl (pc' := 99) (L' := [none, none, some (zi (zadd v2 0)), some (zv n0 a3), some (zi a4), some (zi v5), some (zi x21)]) rfl rfl ?_)
        refine z_iinc C d_V_look_99 rfl (by decide) (z_pl (pc' := 102) (L' := [none, none, some (zi (zadd v2 0)), some (zv n0 a3), some (zi a4), some (zi (zadd v5 1)), some (zi x21)]) rfl rfl ?_)
        refine z_goto (tgt := 73) C d_V_look_102 (by decide) ?_
        exact z_sub2 (ih _ _ _ hf) (And.intro rfl (And.intro rfl (And.intro rfl (And.intro rfl trivial))))
theorem e_V_look {a0 : Nat} {a1 : Int} {M : zHp} {q : Int × zHp} (hf : f_V_look a0 a1 M = some q) : zk M a0 = 0 := by
  unfold f_V_look at hf
  exact (zif hf).1
set_option maxHeartbeats 4000000 in
set_option maxRecDepth 100000 in
theorem c_V_look (D : va_G) (n0 : Nat) (l : Launch) {a0 : Nat} {a1 : Int} {M : zHp} {r : Int} {M' : zHp} (hf : f_V_look a0 a1 M = some (r, M')) : zM D n0 l y_V_look b_V_look 7 (some .int) 0 0 0 0 [zv n0 a0, zi a1] M (some (zi r)) M' := by
  refine zM.ofZ (by decide) (zcr (zci zcn)) (Nat.le_of_ble_eq_true rfl) ?_
  intro p e s m below meth c C hr hnm
  have C : zC D n0 p s m meth c b_V_look 7 "LayerVault" := C
  refine z_eqL (L' := [some (zv n0 a0), some (zi a1), none, none, none, none, none]) rfl ?_
  unfold f_V_look at hf
  have hf := (zif hf).2
  refine z_iload_n C d_V_look_0 rfl (z_pc (pc' := 1) rfl ?_)
  by_cases c1 : zeq a1 0
  · have hf := zpos c1 hf
    refine z_tswK (tgt := 36) (off := 35) C 0 d_V_look_1 c1 (by decide) (by decide) (by decide +kernel) (by decide) ?_
    refine z_aload_n C d_V_look_36 rfl (z_pc (pc' := 37) rfl ?_)
    obtain ⟨x2, h3, hf⟩ := zbind hf
    refine z_getr C fl_V_42 rfl h3 d_V_look_37 (z_pc (pc' := 40) rfl ?_)
    obtain ⟨x4, h5, hf⟩ := zbind hf
    refine z_geti C fl_V_120 h5 d_V_look_40 (z_pc (pc' := 43) rfl ?_)
    exact z_iret C hr (Nat.le_of_ble_eq_true rfl) (Nat.le_of_ble_eq_true rfl) d_V_look_43 hf
  · have hf := zneg c1 hf
    by_cases c6 : zeq a1 1
    · have hf := zpos c6 hf
      refine z_tswK (tgt := 44) (off := 43) C 1 d_V_look_1 c6 (by decide) (by decide) (by decide +kernel) (by decide) ?_
      refine z_aload_n C d_V_look_44 rfl (z_pc (pc' := 45) rfl ?_)
      obtain ⟨x7, h8, hf⟩ := zbind hf
      refine z_geti C fl_V_97 h8 d_V_look_45 (z_pc (pc' := 48) rfl ?_)
      exact z_iret C hr (Nat.le_of_ble_eq_true rfl) (Nat.le_of_ble_eq_true rfl) d_V_look_48 hf
    · have hf := zneg c6 hf
      by_cases c9 : zeq a1 2
      · have hf := zpos c9 hf
        refine z_tswK (tgt := 49) (off := 48) C 2 d_V_look_1 c9 (by decide) (by decide) (by decide +kernel) (by decide) ?_
        refine z_aload_n C d_V_look_49 rfl (z_pc (pc' := 50) rfl ?_)
        obtain ⟨x10, h11, hf⟩ := zbind hf
        refine z_geti C fl_V_103 h11 d_V_look_50 (z_pc (pc' := 53) rfl ?_)
        exact z_iret C hr (Nat.le_of_ble_eq_true rfl) (Nat.le_of_ble_eq_true rfl) d_V_look_53 hf
      · have hf := zneg c9 hf
        by_cases c12 : zeq a1 3
        · have hf := zpos c12 hf
          refine z_tswK (tgt := 54) (off := 53) C 3 d_V_look_1 c12 (by decide) (by decide) (by decide +kernel) (by decide) ?_
          refine z_aload_n C d_V_look_54 rfl (z_pc (pc' := 55) rfl ?_)
          obtain ⟨x13, h14, hf⟩ := zbind hf
          refine z_geti C fl_V_109 h14 d_V_look_55 (z_pc (pc' := 58) rfl ?_)
          exact z_iret C hr (Nat.le_of_ble_eq_true rfl) (Nat.le_of_ble_eq_true rfl) d_V_look_58 hf
        · have hf := zneg c12 hf
          by_cases c15 : zeq a1 4
          · have hf := zpos c15 hf
            refine z_tswK (tgt := 59) (off := 58) C 4 d_V_look_1 c15 (by decide) (by decide) (by decide +kernel) (by decide) ?_
            refine z_iconst C d_V_look_59 (z_pc (pc' := 60) rfl ?_)
            refine z_istore_n C d_V_look_60 (by decide) (z_pl (pc' := 61) (L' := [some (zv n0 a0), some (zi a1), some (zi 0), none, none, none, none]) rfl rfl ?_)
            refine z_aload_n C d_V_look_61 rfl (z_pc (pc' := 62) rfl ?_)
            obtain ⟨x16, h17, hf⟩ := zbind hf
            refine z_getr C fl_V_36 rfl h17 d_V_look_62 (z_pc (pc' := 65) rfl ?_)
            refine z_astore_n C d_V_look_65 (by decide) (z_pl (pc' := 66) (L' := [some (zv n0 a0), some (zi a1), some (zi 0), some (zv n0 x16), none, none, none]) rfl rfl ?_)
            refine z_aload_n C d_V_look_66 rfl (z_pc (pc' := 67) rfl ?_)
            obtain ⟨x18, h19, hf⟩ := zbind hf
            refine z_alen C h19 d_V_look_67 (z_pc (pc' := 68) rfl ?_)
            refine z_istore C d_V_look_68 (by decide) (z_pl (pc' := 70) (L' := [some (zv n0 a0), some (zi a1), some (zi 0), some (zv n0 x16), some (zi x18), none, none]) rfl rfl ?_)
            refine z_iconst C d_V_look_70 (z_pc (pc' := 71) rfl ?_)
            refine z_istore C d_V_look_71 (by decide) (z_pl (pc' := 73) (L' := [some (zv n0 a0), some (zi a1), some (zi 0), some (zv n0 x16), some (zi x18), some (zi 0), none]) rfl rfl ?_)
            refine z_sub2 (w_V_look_L73 C hr ?_ _ _ _ _ hf) (And.intro rfl (And.intro rfl (And.intro rfl (And.intro rfl trivial))))
            intro v24 M25 hf
            refine z_iload_n C d_V_look_105 rfl (z_pc (pc' := 106) rfl ?_)
            exact z_iret C hr (Nat.le_of_ble_eq_true rfl) (Nat.le_of_ble_eq_true rfl) d_V_look_106 hf
          · have hf := zneg c15 hf
            refine z_tswD (tgt := 107) C d_V_look_1 (fun t t1 t2 => by rcases (show t = 0 ∨ t = 1 ∨ t = 2 ∨ t = 3 ∨ t = 4 by omega) with rfl | rfl | rfl | rfl | rfl <;> assumption) (by decide) ?_
            refine z_bipush C d_V_look_107 (by decide) (z_pc (pc' := 109) rfl ?_)
            exact z_iret C hr (Nat.le_of_ble_eq_true rfl) (Nat.le_of_ble_eq_true rfl) d_V_look_109 hf
set_option maxHeartbeats 4000000 in
set_option maxRecDepth 100000 in
theorem c_Md_init (D : va_G) (n0 : Nat) (l : Launch) {a0 : Nat} {M : zHp} {M' : zHp} (h0 : 0 < a0) (hf : f_Md_init a0 M = some M') : zM D n0 l y_Md_init b_Md_init 1 none 1 20 20 5800 [zv n0 a0] M none M' := by
  refine zM.ofZ (by decide) (zcr zcn) (Nat.le_of_ble_eq_true rfl) ?_
  intro p e s m below meth c C hr hnm
  have C : zC D n0 p s m meth c b_Md_init 1 "LayerVaultModel" := C
  have hnm : meth.name = "<init>" := hnm
  refine z_eqL (L' := [some (zv n0 a0)]) rfl ?_
  unfold f_Md_init at hf
  refine z_aload_n C d_Md_init_0 rfl (z_pc (pc' := 1) rfl ?_)
  refine z_objInit C h0 kj_Md_1 kj_inst kj_code ⟨(Nat.le_of_ble_eq_true rfl), (Nat.le_of_ble_eq_true rfl)⟩ (Nat.le_of_ble_eq_true rfl) d_Md_init_1 (z_pc (pc' := 4) rfl ?_)
  refine z_aload_n C d_Md_init_4 rfl (z_pc (pc' := 5) rfl ?_)
  refine z_sipush C d_Md_init_5 (by decide) (z_pc (pc' := 8) rfl ?_)
  obtain ⟨x1, M3, h2, hf⟩ := zb2_inv hf
  refine z_newI C (by decide) ka_int h2 (Nat.le_of_ble_eq_true rfl) (Nat.le_of_ble_eq_true rfl) d_Md_init_8 (z_pc (pc' := 10) rfl ?_)
  obtain ⟨M4, h5, hf⟩ := zbind hf
  refine z_putfr C hnm ff_Md_7 rfl (by decide) rfl h5 d_Md_init_10 (z_pc (pc' := 13) rfl ?_)
  refine z_aload_n C d_Md_init_13 rfl (z_pc (pc' := 14) rfl ?_)
  refine z_sipush C d_Md_init_14 (by decide) (z_pc (pc' := 17) rfl ?_)
  obtain ⟨x6, M8, h7, hf⟩ := zb2_inv hf
  refine z_newI C (by decide) ka_int h7 (Nat.le_of_ble_eq_true rfl) (Nat.le_of_ble_eq_true rfl) d_Md_init_17 (z_pc (pc' := 19) rfl ?_)
  obtain ⟨M9, h10, hf⟩ := zbind hf
  refine z_putfr C hnm ff_Md_13 rfl (by decide) rfl h10 d_Md_init_19 (z_pc (pc' := 22) rfl ?_)
  refine z_aload_n C d_Md_init_22 rfl (z_pc (pc' := 23) rfl ?_)
  refine z_sipush C d_Md_init_23 (by decide) (z_pc (pc' := 26) rfl ?_)
  obtain ⟨x11, M13, h12, hf⟩ := zb2_inv hf
  refine z_newI C (by decide) ka_int h12 (Nat.le_of_ble_eq_true rfl) (Nat.le_of_ble_eq_true rfl) d_Md_init_26 (z_pc (pc' := 28) rfl ?_)
  obtain ⟨M14, h15, hf⟩ := zbind hf
  refine z_putfr C hnm ff_Md_16 rfl (by decide) rfl h15 d_Md_init_28 (z_pc (pc' := 31) rfl ?_)
  refine z_aload_n C d_Md_init_31 rfl (z_pc (pc' := 32) rfl ?_)
  refine z_sipush C d_Md_init_32 (by decide) (z_pc (pc' := 35) rfl ?_)
  obtain ⟨x16, M18, h17, hf⟩ := zb2_inv hf
  refine z_newZ C (by decide) ka_boolean h17 (Nat.le_of_ble_eq_true rfl) (Nat.le_of_ble_eq_true rfl) d_Md_init_35 (z_pc (pc' := 37) rfl ?_)
  obtain ⟨M19, h20, hf⟩ := zbind hf
  refine z_putfr C hnm ff_Md_19 rfl (by decide) rfl h20 d_Md_init_37 (z_pc (pc' := 40) rfl ?_)
  refine z_aload_n C d_Md_init_40 rfl (z_pc (pc' := 41) rfl ?_)
  refine z_sipush C d_Md_init_41 (by decide) (z_pc (pc' := 44) rfl ?_)
  obtain ⟨x21, M23, h22, hf⟩ := zb2_inv hf
  refine z_newI C (by decide) ka_int h22 (Nat.le_of_ble_eq_true rfl) (Nat.le_of_ble_eq_true rfl) d_Md_init_44 (z_pc (pc' := 46) rfl ?_)
  obtain ⟨M24, h25, hf⟩ := zbind hf
  refine z_putfr C hnm ff_Md_23 rfl (by decide) rfl h25 d_Md_init_46 (z_pc (pc' := 49) rfl ?_)
  refine z_aload_n C d_Md_init_49 rfl (z_pc (pc' := 50) rfl ?_)
  refine z_sipush C d_Md_init_50 (by decide) (z_pc (pc' := 53) rfl ?_)
  obtain ⟨x26, M28, h27, hf⟩ := zb2_inv hf
  refine z_newI C (by decide) ka_int h27 (Nat.le_of_ble_eq_true rfl) (Nat.le_of_ble_eq_true rfl) d_Md_init_53 (z_pc (pc' := 55) rfl ?_)
  obtain ⟨M29, h30, hf⟩ := zbind hf
  refine z_putfr C hnm ff_Md_26 rfl (by decide) rfl h30 d_Md_init_55 (z_pc (pc' := 58) rfl ?_)
  refine z_aload_n C d_Md_init_58 rfl (z_pc (pc' := 59) rfl ?_)
  refine z_sipush C d_Md_init_59 (by decide) (z_pc (pc' := 62) rfl ?_)
  obtain ⟨x31, M33, h32, hf⟩ := zb2_inv hf
  refine z_newI C (by decide) ka_int h32 (Nat.le_of_ble_eq_true rfl) (Nat.le_of_ble_eq_true rfl) d_Md_init_62 (z_pc (pc' := 64) rfl ?_)
  obtain ⟨M34, h35, hf⟩ := zbind hf
  refine z_putfr C hnm ff_Md_29 rfl (by decide) rfl h35 d_Md_init_64 (z_pc (pc' := 67) rfl ?_)
  refine z_aload_n C d_Md_init_67 rfl (z_pc (pc' := 68) rfl ?_)
  refine z_sipush C d_Md_init_68 (by decide) (z_pc (pc' := 71) rfl ?_)
  obtain ⟨x36, M38, h37, hf⟩ := zb2_inv hf
  refine z_newI C (by decide) ka_int h37 (Nat.le_of_ble_eq_true rfl) (Nat.le_of_ble_eq_true rfl) d_Md_init_71 (z_pc (pc' := 73) rfl ?_)
  obtain ⟨M39, h40, hf⟩ := zbind hf
  refine z_putfr C hnm ff_Md_32 rfl (by decide) rfl h40 d_Md_init_73 (z_pc (pc' := 76) rfl ?_)
  refine z_aload_n C d_Md_init_76 rfl (z_pc (pc' := 77) rfl ?_)
  refine z_sipush C d_Md_init_77 (by decide) (z_pc (pc' := 80) rfl ?_)
  obtain ⟨x41, M43, h42, hf⟩ := zb2_inv hf
  refine z_newI C (by decide) ka_int h42 (Nat.le_of_ble_eq_true rfl) (Nat.le_of_ble_eq_true rfl) d_Md_init_80 (z_pc (pc' := 82) rfl ?_)
  obtain ⟨M44, h45, hf⟩ := zbind hf
  refine z_putfr C hnm ff_Md_35 rfl (by decide) rfl h45 d_Md_init_82 (z_pc (pc' := 85) rfl ?_)
  refine z_aload_n C d_Md_init_85 rfl (z_pc (pc' := 86) rfl ?_)
  refine z_sipush C d_Md_init_86 (by decide) (z_pc (pc' := 89) rfl ?_)
  obtain ⟨x46, M48, h47, hf⟩ := zb2_inv hf
  refine z_newZ C (by decide) ka_boolean h47 (Nat.le_of_ble_eq_true rfl) (Nat.le_of_ble_eq_true rfl) d_Md_init_89 (z_pc (pc' := 91) rfl ?_)
  obtain ⟨M49, h50, hf⟩ := zbind hf
  refine z_putfr C hnm ff_Md_38 rfl (by decide) rfl h50 d_Md_init_91 (z_pc (pc' := 94) rfl ?_)
  refine z_aload_n C d_Md_init_94 rfl (z_pc (pc' := 95) rfl ?_)
  refine z_sipush C d_Md_init_95 (by decide) (z_pc (pc' := 98) rfl ?_)
  obtain ⟨x51, M53, h52, hf⟩ := zb2_inv hf
  refine z_newZ C (by decide) ka_boolean h52 (Nat.le_of_ble_eq_true rfl) (Nat.le_of_ble_eq_true rfl) d_Md_init_98 (z_pc (pc' := 100) rfl ?_)
  obtain ⟨M54, h55, hf⟩ := zbind hf
  refine z_putfr C hnm ff_Md_41 rfl (by decide) rfl h55 d_Md_init_100 (z_pc (pc' := 103) rfl ?_)
  refine z_aload_n C d_Md_init_103 rfl (z_pc (pc' := 104) rfl ?_)
  refine z_bipush C d_Md_init_104 (by decide) (z_pc (pc' := 106) rfl ?_)
  obtain ⟨x56, M58, h57, hf⟩ := zb2_inv hf
  refine z_newI C (by decide) ka_int h57 (Nat.le_of_ble_eq_true rfl) (Nat.le_of_ble_eq_true rfl) d_Md_init_106 (z_pc (pc' := 108) rfl ?_)
  obtain ⟨M59, h60, hf⟩ := zbind hf
  refine z_putfr C hnm ff_Md_44 rfl (by decide) rfl h60 d_Md_init_108 (z_pc (pc' := 111) rfl ?_)
  refine z_aload_n C d_Md_init_111 rfl (z_pc (pc' := 112) rfl ?_)
  refine z_bipush C d_Md_init_112 (by decide) (z_pc (pc' := 114) rfl ?_)
  obtain ⟨x61, M63, h62, hf⟩ := zb2_inv hf
  refine z_newI C (by decide) ka_int h62 (Nat.le_of_ble_eq_true rfl) (Nat.le_of_ble_eq_true rfl) d_Md_init_114 (z_pc (pc' := 116) rfl ?_)
  obtain ⟨M64, h65, hf⟩ := zbind hf
  refine z_putfr C hnm ff_Md_47 rfl (by decide) rfl h65 d_Md_init_116 (z_pc (pc' := 119) rfl ?_)
  refine z_aload_n C d_Md_init_119 rfl (z_pc (pc' := 120) rfl ?_)
  refine z_bipush C d_Md_init_120 (by decide) (z_pc (pc' := 122) rfl ?_)
  obtain ⟨x66, M68, h67, hf⟩ := zb2_inv hf
  refine z_newI C (by decide) ka_int h67 (Nat.le_of_ble_eq_true rfl) (Nat.le_of_ble_eq_true rfl) d_Md_init_122 (z_pc (pc' := 124) rfl ?_)
  obtain ⟨M69, h70, hf⟩ := zbind hf
  refine z_putfr C hnm ff_Md_50 rfl (by decide) rfl h70 d_Md_init_124 (z_pc (pc' := 127) rfl ?_)
  refine z_aload_n C d_Md_init_127 rfl (z_pc (pc' := 128) rfl ?_)
  refine z_iconst C d_Md_init_128 (z_pc (pc' := 129) rfl ?_)
  obtain ⟨x71, M73, h72, hf⟩ := zb2_inv hf
  refine z_newZ C (by decide) ka_boolean h72 (Nat.le_of_ble_eq_true rfl) (Nat.le_of_ble_eq_true rfl) d_Md_init_129 (z_pc (pc' := 131) rfl ?_)
  obtain ⟨M74, h75, hf⟩ := zbind hf
  refine z_putfr C hnm ff_Md_53 rfl (by decide) rfl h75 d_Md_init_131 (z_pc (pc' := 134) rfl ?_)
  refine z_aload_n C d_Md_init_134 rfl (z_pc (pc' := 135) rfl ?_)
  refine z_iconst C d_Md_init_135 (z_pc (pc' := 136) rfl ?_)
  obtain ⟨x76, M78, h77, hf⟩ := zb2_inv hf
  refine z_newI C (by decide) ka_int h77 (Nat.le_of_ble_eq_true rfl) (Nat.le_of_ble_eq_true rfl) d_Md_init_136 (z_pc (pc' := 138) rfl ?_)
  obtain ⟨M79, h80, hf⟩ := zbind hf
  refine z_putfr C hnm ff_Md_56 rfl (by decide) rfl h80 d_Md_init_138 (z_pc (pc' := 141) rfl ?_)
  refine z_aload_n C d_Md_init_141 rfl (z_pc (pc' := 142) rfl ?_)
  refine z_bipush C d_Md_init_142 (by decide) (z_pc (pc' := 144) rfl ?_)
  obtain ⟨x81, M83, h82, hf⟩ := zb2_inv hf
  refine z_newI C (by decide) ka_int h82 (Nat.le_of_ble_eq_true rfl) (Nat.le_of_ble_eq_true rfl) d_Md_init_144 (z_pc (pc' := 146) rfl ?_)
  obtain ⟨M84, h85, hf⟩ := zbind hf
  refine z_putfr C hnm ff_Md_59 rfl (by decide) rfl h85 d_Md_init_146 (z_pc (pc' := 149) rfl ?_)
  refine z_aload_n C d_Md_init_149 rfl (z_pc (pc' := 150) rfl ?_)
  refine z_bipush C d_Md_init_150 (by decide) (z_pc (pc' := 152) rfl ?_)
  obtain ⟨x86, M88, h87, hf⟩ := zb2_inv hf
  refine z_newI C (by decide) ka_int h87 (Nat.le_of_ble_eq_true rfl) (Nat.le_of_ble_eq_true rfl) d_Md_init_152 (z_pc (pc' := 154) rfl ?_)
  obtain ⟨M89, h90, hf⟩ := zbind hf
  refine z_putfr C hnm ff_Md_62 rfl (by decide) rfl h90 d_Md_init_154 (z_pc (pc' := 157) rfl ?_)
  refine z_aload_n C d_Md_init_157 rfl (z_pc (pc' := 158) rfl ?_)
  refine z_bipush C d_Md_init_158 (by decide) (z_pc (pc' := 160) rfl ?_)
  obtain ⟨x91, M93, h92, hf⟩ := zb2_inv hf
  refine z_newI C (by decide) ka_int h92 (Nat.le_of_ble_eq_true rfl) (Nat.le_of_ble_eq_true rfl) d_Md_init_160 (z_pc (pc' := 162) rfl ?_)
  obtain ⟨M94, h95, hf⟩ := zbind hf
  refine z_putfr C hnm ff_Md_65 rfl (by decide) rfl h95 d_Md_init_162 (z_pc (pc' := 165) rfl ?_)
  refine z_aload_n C d_Md_init_165 rfl (z_pc (pc' := 166) rfl ?_)
  refine z_bipush C d_Md_init_166 (by decide) (z_pc (pc' := 168) rfl ?_)
  obtain ⟨x96, M98, h97, hf⟩ := zb2_inv hf
  refine z_newZ C (by decide) ka_boolean h97 (Nat.le_of_ble_eq_true rfl) (Nat.le_of_ble_eq_true rfl) d_Md_init_168 (z_pc (pc' := 170) rfl ?_)
  obtain ⟨M99, h100, hf⟩ := zbind hf
  refine z_putfr C hnm ff_Md_68 rfl (by decide) rfl h100 d_Md_init_170 (z_pc (pc' := 173) rfl ?_)
  exact z_vret C hr (Nat.le_of_ble_eq_true rfl) (Nat.le_of_ble_eq_true rfl) d_Md_init_173 hf
theorem e_Md_gone {a0 : Nat} {a1 : Int} {M : zHp} {q : Int × zHp} (hf : f_Md_gone a0 a1 M = some q) : zk M a0 = 8 := by
  unfold f_Md_gone at hf
  exact (zif hf).1
set_option maxHeartbeats 4000000 in
set_option maxRecDepth 100000 in
theorem c_Md_gone (D : va_G) (n0 : Nat) (l : Launch) {a0 : Nat} {a1 : Int} {M : zHp} {r : Int} {M' : zHp} (hf : f_Md_gone a0 a1 M = some (r, M')) : zM D n0 l y_Md_gone b_Md_gone 2 (some .boolean) 0 0 0 0 [zv n0 a0, zi a1] M (some (zi r)) M' := by
  refine zM.ofZ (by decide) (zcr (zci zcn)) (Nat.le_of_ble_eq_true rfl) ?_
  intro p e s m below meth c C hr hnm
  have C : zC D n0 p s m meth c b_Md_gone 2 "LayerVaultModel" := C
  refine z_eqL (L' := [some (zv n0 a0), some (zi a1)]) rfl ?_
  unfold f_Md_gone at hf
  have hf := (zif hf).2
  refine z_aload_n C d_Md_gone_0 rfl (z_pc (pc' := 1) rfl ?_)
  obtain ⟨x1, h2, hf⟩ := zbind hf
  refine z_getr C fl_Md_19 rfl h2 d_Md_gone_1 (z_pc (pc' := 4) rfl ?_)
  refine z_iload_n C d_Md_gone_4 rfl (z_pc (pc' := 5) rfl ?_)
  obtain ⟨x3, h4, hf⟩ := zbind hf
  refine z_bald C h4 d_Md_gone_5 (z_pc (pc' := 6) rfl ?_)
  refine z_if_ne (tgt := 31) C d_Md_gone_6 (by decide) (fun c5 => ?_) (fun c5 => z_pc (pc' := 9) rfl ?_)
  · have hf := zneg c5 hf
    refine z_iconst C d_Md_gone_31 (z_pc (pc' := 32) rfl ?_)
    refine z_goto (tgt := 36) C d_Md_gone_32 (by decide) ?_
    exact z_zret C hr rfl (Nat.le_of_ble_eq_true rfl) (Nat.le_of_ble_eq_true rfl) d_Md_gone_36 hf
  · have hf := zpos c5 hf
    refine z_aload_n C d_Md_gone_9 rfl (z_pc (pc' := 10) rfl ?_)
    obtain ⟨x6, h7, hf⟩ := zbind hf
    refine z_getr C fl_Md_23 rfl h7 d_Md_gone_10 (z_pc (pc' := 13) rfl ?_)
    refine z_iload_n C d_Md_gone_13 rfl (z_pc (pc' := 14) rfl ?_)
    obtain ⟨x8, h9, hf⟩ := zbind hf
    refine z_iald C h9 d_Md_gone_14 (z_pc (pc' := 15) rfl ?_)
    refine z_if_le (tgt := 35) C d_Md_gone_15 (by decide) (fun c10 => ?_) (fun c10 => z_pc (pc' := 18) rfl ?_)
    · have hf := zpos c10 hf
      refine z_iconst C d_Md_gone_35 (z_pc (pc' := 36) rfl ?_)
      exact z_zret C hr rfl (Nat.le_of_ble_eq_true rfl) (Nat.le_of_ble_eq_true rfl) d_Md_gone_36 hf
    · have hf := zneg c10 hf
      refine z_aload_n C d_Md_gone_18 rfl (z_pc (pc' := 19) rfl ?_)
      obtain ⟨x11, h12, hf⟩ := zbind hf
      refine z_geti C fl_Md_71 h12 d_Md_gone_19 (z_pc (pc' := 22) rfl ?_)
      refine z_aload_n C d_Md_gone_22 rfl (z_pc (pc' := 23) rfl ?_)
      obtain ⟨x13, h14, hf⟩ := zbind hf
      refine z_getr C fl_Md_23 rfl h14 d_Md_gone_23 (z_pc (pc' := 26) rfl ?_)
      refine z_iload_n C d_Md_gone_26 rfl (z_pc (pc' := 27) rfl ?_)
      obtain ⟨x15, h16, hf⟩ := zbind hf
      refine z_iald C h16 d_Md_gone_27 (z_pc (pc' := 28) rfl ?_)
      refine z_icmp_lt (tgt := 35) C d_Md_gone_28 (by decide) (fun c17 => ?_) (fun c17 => z_pc (pc' := 31) rfl ?_)
      · have hf := zpos c17 hf
        refine z_iconst C d_Md_gone_35 (z_pc (pc' := 36) rfl ?_)
        exact z_zret C hr rfl (Nat.le_of_ble_eq_true rfl) (Nat.le_of_ble_eq_true rfl) d_Md_gone_36 hf
      · have hf := zneg c17 hf
        refine z_iconst C d_Md_gone_31 (z_pc (pc' := 32) rfl ?_)
        refine z_goto (tgt := 36) C d_Md_gone_32 (by decide) ?_
        exact z_zret C hr rfl (Nat.le_of_ble_eq_true rfl) (Nat.le_of_ble_eq_true rfl) d_Md_gone_36 hf
set_option maxHeartbeats 4000000 in
set_option maxRecDepth 100000 in
theorem w_Md_size_L4 {D : va_G} {n0 : Nat} {l : Launch} {p : Program} {e : Env} {s : State} {m : MethodId} {args : Array Value} {below : List Frame} {meth : Method} {c : Code} {a0 : Nat} {a1 : Int} {r : Int} {M' : zHp} {κ : Int → zHp → Option (Int × zHp)} (C : zC D n0 p s m meth c b_Md_size 4 "LayerVaultModel") (hr : meth.sig.returnType = (some .int))
    (hκ : ∀ (u2 : Int) (M1 : zHp), κ u2 M1 = some (r, M') → zZ D n0 p l e { frames := 0, cells := 0, slots := 0, locals := 0 } s m args below meth c 4 0 0 (MQ below (zQc D n0 (some (zi r)) M') args s 0 0 (fun q => n0 ≤ q)) 31 [none, none, some (zi u2), none] [] M1) :
    ∀ (n : Nat) (v2 : Int) (v3 : Int) (M : zHp), f_Md_size_L4 κ a0 a1 n v2 v3 M = some (r, M') → zZ D n0 p l e { frames := 0, cells := 0, slots := 0, locals := 0 } s m args below meth c 4 0 0 (MQ below (zQc D n0 (some (zi r)) M') args s 0 0 (fun q => n0 ≤ q)) 4 [some (zv n0 a0), some (zi a1), some (zi v2), some (zi v3)] [] M := by
  intro n
  induction n with
  | zero =>
    intro v2 v3 M hf
    exact absurd hf (by unfold f_Md_size_L4; simp)
  | succ n ih =>
    intro v2 v3 M hf
    unfold f_Md_size_L4 at hf
    refine z_iload_n C d_Md_size_4 rfl (z_pc (pc' := 5) rfl ?_)
    refine z_aload_n C d_Md_size_5 rfl (z_pc (pc' := 6) rfl ?_)
    obtain ⟨x1, h2, hf⟩ := zbind hf
    refine z_geti C fl_Md_75 h2 d_Md_size_6 (z_pc (pc' := 9) rfl ?_)
    refine z_icmp_ge (tgt := 31) C d_Md_size_9 (by decide) (fun c3 => ?_) (fun c3 => z_pc (pc' := 12) rfl ?_)
    · have hf := zpos c3 hf
      exact z_sub2 (hκ _ _ hf) (And.intro rfl trivial)
    · have hf := zneg c3 hf
      refine z_aload_n C d_Md_size_12 rfl (z_pc (pc' := 13) rfl ?_)
      obtain ⟨x4, h5, hf⟩ := zbind hf
      refine z_getr C fl_Md_26 rfl h5 d_Md_size_13 (z_pc (pc' := 16) rfl ?_)
      refine z_iload_n C d_Md_size_16 rfl (z_pc (pc' := 17) rfl ?_)
      obtain ⟨x6, h7, hf⟩ := zbind hf
      refine z_iald C h7 d_Md_size_17 (z_pc (pc' := 18) rfl ?_)
      refine z_iload_n C d_Md_size_18 rfl (z_pc (pc' := 19) rfl ?_)
      refine z_icmp_ne (tgt := 25) C d_Md_size_19 (by decide) (fun c8 => ?_) (fun c8 => z_pc (pc' := 22) rfl ?_)
      · have hf := zneg c8 hf
        refine z_iinc C d_Md_size_25 rfl (by decide) (z_pl (pc' := 28) (L' := [some (zv n0 a0), some (zi a1), some (zi v2), some (zi (zadd v3 1))]) rfl rfl ?_)
        refine z_goto (tgt := 4) C d_Md_size_28 (by decide) ?_
        exact z_sub2 (ih _ _ _ hf) (And.intro rfl (And.intro rfl (And.intro rfl (And.intro rfl trivial))))
      · have hf := zpos c8 hf
        refine z_iinc C d_Md_size_22 rfl (by decide) (z_pl (pc' := 25) (L' := [some (zv n0 a0), some (zi a1), some (zi (zadd v2 1)), some (zi v3)]) rfl rfl ?_)
        refine z_iinc C d_Md_size_25 rfl (by decide) (z_pl (pc' := 28) (L' := [some (zv n0 a0), some (zi a1), some (zi (zadd v2 1)), some (zi (zadd v3 1))]) rfl rfl ?_)
        refine z_goto (tgt := 4) C d_Md_size_28 (by decide) ?_
        exact z_sub2 (ih _ _ _ hf) (And.intro rfl (And.intro rfl (And.intro rfl (And.intro rfl trivial))))
theorem e_Md_size {a0 : Nat} {a1 : Int} {M : zHp} {q : Int × zHp} (hf : f_Md_size a0 a1 M = some q) : zk M a0 = 8 := by
  unfold f_Md_size at hf
  exact (zif hf).1
set_option maxHeartbeats 4000000 in
set_option maxRecDepth 100000 in
theorem c_Md_size (D : va_G) (n0 : Nat) (l : Launch) {a0 : Nat} {a1 : Int} {M : zHp} {r : Int} {M' : zHp} (hf : f_Md_size a0 a1 M = some (r, M')) : zM D n0 l y_Md_size b_Md_size 4 (some .int) 0 0 0 0 [zv n0 a0, zi a1] M (some (zi r)) M' := by
  refine zM.ofZ (by decide) (zcr (zci zcn)) (Nat.le_of_ble_eq_true rfl) ?_
  intro p e s m below meth c C hr hnm
  have C : zC D n0 p s m meth c b_Md_size 4 "LayerVaultModel" := C
  refine z_eqL (L' := [some (zv n0 a0), some (zi a1), none, none]) rfl ?_
  unfold f_Md_size at hf
  have hf := (zif hf).2
  refine z_iconst C d_Md_size_0 (z_pc (pc' := 1) rfl ?_)
  refine z_istore_n C d_Md_size_1 (by decide) (z_pl (pc' := 2) (L' := [some (zv n0 a0), some (zi a1), some (zi 0), none]) rfl rfl ?_)
  refine z_iconst C d_Md_size_2 (z_pc (pc' := 3) rfl ?_)
  refine z_istore_n C d_Md_size_3 (by decide) (z_pl (pc' := 4) (L' := [some (zv n0 a0), some (zi a1), some (zi 0), some (zi 0)]) rfl rfl ?_)
  refine z_sub2 (w_Md_size_L4 C hr ?_ _ _ _ _ hf) (And.intro rfl (And.intro rfl (And.intro rfl (And.intro rfl trivial))))
  intro v9 M10 hf
  refine z_iload_n C d_Md_size_31 rfl (z_pc (pc' := 32) rfl ?_)
  exact z_iret C hr (Nat.le_of_ble_eq_true rfl) (Nat.le_of_ble_eq_true rfl) d_Md_size_32 hf
theorem e_Md_before {a0 : Nat} {a1 : Int} {a2 : Int} {M : zHp} {q : Int × zHp} (hf : f_Md_before a0 a1 a2 M = some q) : zk M a0 = 8 := by
  unfold f_Md_before at hf
  exact (zif hf).1
set_option maxHeartbeats 4000000 in
set_option maxRecDepth 100000 in
theorem c_Md_before (D : va_G) (n0 : Nat) (l : Launch) {a0 : Nat} {a1 : Int} {a2 : Int} {M : zHp} {r : Int} {M' : zHp} (hf : f_Md_before a0 a1 a2 M = some (r, M')) : zM D n0 l y_Md_before b_Md_before 3 (some .boolean) 0 0 0 0 [zv n0 a0, zi a1, zi a2] M (some (zi r)) M' := by
  refine zM.ofZ (by decide) (zcr (zci (zci zcn))) (Nat.le_of_ble_eq_true rfl) ?_
  intro p e s m below meth c C hr hnm
  have C : zC D n0 p s m meth c b_Md_before 3 "LayerVaultModel" := C
  refine z_eqL (L' := [some (zv n0 a0), some (zi a1), some (zi a2)]) rfl ?_
  unfold f_Md_before at hf
  have hf := (zif hf).2
  refine z_aload_n C d_Md_before_0 rfl (z_pc (pc' := 1) rfl ?_)
  obtain ⟨x1, h2, hf⟩ := zbind hf
  refine z_getr C fl_Md_7 rfl h2 d_Md_before_1 (z_pc (pc' := 4) rfl ?_)
  refine z_iload_n C d_Md_before_4 rfl (z_pc (pc' := 5) rfl ?_)
  obtain ⟨x3, h4, hf⟩ := zbind hf
  refine z_iald C h4 d_Md_before_5 (z_pc (pc' := 6) rfl ?_)
  refine z_aload_n C d_Md_before_6 rfl (z_pc (pc' := 7) rfl ?_)
  obtain ⟨x5, h6, hf⟩ := zbind hf
  refine z_getr C fl_Md_7 rfl h6 d_Md_before_7 (z_pc (pc' := 10) rfl ?_)
  refine z_iload_n C d_Md_before_10 rfl (z_pc (pc' := 11) rfl ?_)
  obtain ⟨x7, h8, hf⟩ := zbind hf
  refine z_iald C h8 d_Md_before_11 (z_pc (pc' := 12) rfl ?_)
  refine z_icmp_lt (tgt := 45) C d_Md_before_12 (by decide) (fun c9 => ?_) (fun c9 => z_pc (pc' := 15) rfl ?_)
  · have hf := zpos c9 hf
    refine z_iconst C d_Md_before_45 (z_pc (pc' := 46) rfl ?_)
    refine z_goto (tgt := 50) C d_Md_before_46 (by decide) ?_
    exact z_zret C hr rfl (Nat.le_of_ble_eq_true rfl) (Nat.le_of_ble_eq_true rfl) d_Md_before_50 hf
  · have hf := zneg c9 hf
    refine z_aload_n C d_Md_before_15 rfl (z_pc (pc' := 16) rfl ?_)
    obtain ⟨x10, h11, hf⟩ := zbind hf
    refine z_getr C fl_Md_7 rfl h11 d_Md_before_16 (z_pc (pc' := 19) rfl ?_)
    refine z_iload_n C d_Md_before_19 rfl (z_pc (pc' := 20) rfl ?_)
    obtain ⟨x12, h13, hf⟩ := zbind hf
    refine z_iald C h13 d_Md_before_20 (z_pc (pc' := 21) rfl ?_)
    refine z_aload_n C d_Md_before_21 rfl (z_pc (pc' := 22) rfl ?_)
    obtain ⟨x14, h15, hf⟩ := zbind hf
    refine z_getr C fl_Md_7 rfl h15 d_Md_before_22 (z_pc (pc' := 25) rfl ?_)
    refine z_iload_n C d_Md_before_25 rfl (z_pc (pc' := 26) rfl ?_)
    obtain ⟨x16, h17, hf⟩ := zbind hf
    refine z_iald C h17 d_Md_before_26 (z_pc (pc' := 27) rfl ?_)
    refine z_icmp_ne (tgt := 49) C d_Md_before_27 (by decide) (fun c18 => ?_) (fun c18 => z_pc (pc' := 30) rfl ?_)
    · have hf := zneg c18 hf
      refine z_iconst C d_Md_before_49 (z_pc (pc' := 50) rfl ?_)
      exact z_zret C hr rfl (Nat.le_of_ble_eq_true rfl) (Nat.le_of_ble_eq_true rfl) d_Md_before_50 hf
    · have hf := zpos c18 hf
      refine z_aload_n C d_Md_before_30 rfl (z_pc (pc' := 31) rfl ?_)
      obtain ⟨x19, h20, hf⟩ := zbind hf
      refine z_getr C fl_Md_13 rfl h20 d_Md_before_31 (z_pc (pc' := 34) rfl ?_)
      refine z_iload_n C d_Md_before_34 rfl (z_pc (pc' := 35) rfl ?_)
      obtain ⟨x21, h22, hf⟩ := zbind hf
      refine z_iald C h22 d_Md_before_35 (z_pc (pc' := 36) rfl ?_)
      refine z_aload_n C d_Md_before_36 rfl (z_pc (pc' := 37) rfl ?_)
      obtain ⟨x23, h24, hf⟩ := zbind hf
      refine z_getr C fl_Md_13 rfl h24 d_Md_before_37 (z_pc (pc' := 40) rfl ?_)
      refine z_iload_n C d_Md_before_40 rfl (z_pc (pc' := 41) rfl ?_)
      obtain ⟨x25, h26, hf⟩ := zbind hf
      refine z_iald C h26 d_Md_before_41 (z_pc (pc' := 42) rfl ?_)
      refine z_icmp_le (tgt := 49) C d_Md_before_42 (by decide) (fun c27 => ?_) (fun c27 => z_pc (pc' := 45) rfl ?_)
      · have hf := zpos c27 hf
        refine z_iconst C d_Md_before_49 (z_pc (pc' := 50) rfl ?_)
        exact z_zret C hr rfl (Nat.le_of_ble_eq_true rfl) (Nat.le_of_ble_eq_true rfl) d_Md_before_50 hf
      · have hf := zneg c27 hf
        refine z_iconst C d_Md_before_45 (z_pc (pc' := 46) rfl ?_)
        refine z_goto (tgt := 50) C d_Md_before_46 (by decide) ?_
        exact z_zret C hr rfl (Nat.le_of_ble_eq_true rfl) (Nat.le_of_ble_eq_true rfl) d_Md_before_50 hf
set_option maxHeartbeats 4000000 in
set_option maxRecDepth 100000 in
theorem w_Md_arrange_L37 {D : va_G} {n0 : Nat} {l : Launch} {p : Program} {e : Env} {s : State} {m : MethodId} {args : Array Value} {below : List Frame} {meth : Method} {c : Code} {a0 : Nat} {a1 : Int} {M' : zHp} {κ : Int → zHp → Option (zHp)} (C : zC D n0 p s m meth c b_Md_arrange 4 "LayerVaultModel") (hr : meth.sig.returnType = none)
    (hκ : ∀ (u2 : Int) (M1 : zHp), κ u2 M1 = some M' → zZ D n0 p l e { frames := 1, cells := 0, slots := 0, locals := 22 } s m args below meth c 4 0 0 (MQ below (zQc D n0 none M') args s 0 0 (fun q => n0 ≤ q)) 78 [some (zv n0 a0), some (zi a1), some (zi u2), none] [] M1) :
    ∀ (n : Nat) (v2 : Int) (v3 : Int) (M : zHp), f_Md_arrange_L37 κ a0 a1 n v2 v3 M = some M' → zZ D n0 p l e { frames := 1, cells := 0, slots := 0, locals := 22 } s m args below meth c 4 0 0 (MQ below (zQc D n0 none M') args s 0 0 (fun q => n0 ≤ q)) 37 [some (zv n0 a0), some (zi a1), some (zi v2), some (zi v3)] [] M := by
  intro n
  induction n with
  | zero =>
    intro v2 v3 M hf
    exact absurd hf (by unfold f_Md_arrange_L37; simp)
  | succ n ih =>
    intro v2 v3 M hf
    unfold f_Md_arrange_L37 at hf
    refine z_iload_n C d_Md_arrange_37 rfl (z_pc (pc' := 38) rfl ?_)
    refine z_aload_n C d_Md_arrange_38 rfl (z_pc (pc' := 39) rfl ?_)
    obtain ⟨x9, h10, hf⟩ := zbind hf
    refine z_geti C fl_Md_75 h10 d_Md_arrange_39 (z_pc (pc' := 42) rfl ?_)
    refine z_icmp_ge (tgt := 78) C d_Md_arrange_42 (by decide) (fun c11 => ?_) (fun c11 => z_pc (pc' := 45) rfl ?_)
    · have hf := zpos c11 hf
      exact z_sub2 (hκ _ _ hf) (And.intro rfl (And.intro rfl (And.intro rfl trivial)))
    · have hf := zneg c11 hf
      refine z_aload_n C d_Md_arrange_45 rfl (z_pc (pc' := 46) rfl ?_)
      obtain ⟨x12, h13, hf⟩ := zbind hf
      refine z_getr C fl_Md_26 rfl h13 d_Md_arrange_46 (z_pc (pc' := 49) rfl ?_)
      refine z_iload_n C d_Md_arrange_49 rfl (z_pc (pc' := 50) rfl ?_)
      obtain ⟨x14, h15, hf⟩ := zbind hf
      refine z_iald C h15 d_Md_arrange_50 (z_pc (pc' := 51) rfl ?_)
      refine z_aload_n C d_Md_arrange_51 rfl (z_pc (pc' := 52) rfl ?_)
      obtain ⟨x16, h17, hf⟩ := zbind hf
      refine z_getr C fl_Md_26 rfl h17 d_Md_arrange_52 (z_pc (pc' := 55) rfl ?_)
      refine z_iload_n C d_Md_arrange_55 rfl (z_pc (pc' := 56) rfl ?_)
      obtain ⟨x18, h19, hf⟩ := zbind hf
      refine z_iald C h19 d_Md_arrange_56 (z_pc (pc' := 57) rfl ?_)
      refine z_icmp_ne (tgt := 72) C d_Md_arrange_57 (by decide) (fun c20 => ?_) (fun c20 => z_pc (pc' := 60) rfl ?_)
      · have hf := zneg c20 hf
        refine z_iinc C d_Md_arrange_72 rfl (by decide) (z_pl (pc' := 75) (L' := [some (zv n0 a0), some (zi a1), some (zi v2), some (zi (zadd v3 1))]) rfl rfl ?_)
        refine z_goto (tgt := 37) C d_Md_arrange_75 (by decide) ?_
        exact z_sub2 (ih _ _ _ hf) (And.intro rfl (And.intro rfl (And.intro rfl (And.intro rfl trivial))))
      · have hf := zpos c20 hf
        refine z_aload_n C d_Md_arrange_60 rfl (z_pc (pc' := 61) rfl ?_)
        refine z_iload_n C d_Md_arrange_61 rfl (z_pc (pc' := 62) rfl ?_)
        refine z_iload_n C d_Md_arrange_62 rfl (z_pc (pc' := 63) rfl ?_)
        obtain ⟨x23, M22, h21, hf⟩ := zb2_inv hf
        refine z_callV C [zi v3, zi a1] [] kv_Md_78 (c_Md_before D n0 l h21) (e_Md_before h21) ⟨(Nat.le_of_ble_eq_true rfl), (Nat.le_of_ble_eq_true rfl)⟩ (Nat.le_of_ble_eq_true rfl) ⟨(Nat.le_of_ble_eq_true rfl), (Nat.le_of_ble_eq_true rfl)⟩ d_Md_arrange_63 (z_pc (pc' := 66) rfl ?_)
        refine z_if_eq (tgt := 72) C d_Md_arrange_66 (by decide) (fun c24 => ?_) (fun c24 => z_pc (pc' := 69) rfl ?_)
        · have hf := zpos c24 hf
          refine z_iinc C d_Md_arrange_72 rfl (by decide) (z_pl (pc' := 75) (L' := [some (zv n0 a0), some (zi a1), some (zi v2), some (zi (zadd v3 1))]) rfl rfl ?_)
          refine z_goto (tgt := 37) C d_Md_arrange_75 (by decide) ?_
          exact z_sub2 (ih _ _ _ hf) (And.intro rfl (And.intro rfl (And.intro rfl (And.intro rfl trivial))))
        · have hf := zneg c24 hf
          refine z_iinc C d_Md_arrange_69 rfl (by decide) (z_pl (pc' := 72) (L' := [some (zv n0 a0), some (zi a1), some (zi (zadd v2 1)), some (zi v3)]) rfl rfl ?_)
          refine z_iinc C d_Md_arrange_72 rfl (by decide) (z_pl (pc' := 75) (L' := [some (zv n0 a0), some (zi a1), some (zi (zadd v2 1)), some (zi (zadd v3 1))]) rfl rfl ?_)
          refine z_goto (tgt := 37) C d_Md_arrange_75 (by decide) ?_
          exact z_sub2 (ih _ _ _ hf) (And.intro rfl (And.intro rfl (And.intro rfl (And.intro rfl trivial))))
set_option maxHeartbeats 4000000 in
set_option maxRecDepth 100000 in
theorem w_Md_arrange_L2 {D : va_G} {n0 : Nat} {l : Launch} {p : Program} {e : Env} {s : State} {m : MethodId} {args : Array Value} {below : List Frame} {meth : Method} {c : Code} {a0 : Nat} {M' : zHp} {κ : zHp → Option (zHp)} (C : zC D n0 p s m meth c b_Md_arrange 4 "LayerVaultModel") (hr : meth.sig.returnType = none)
    (hκ : ∀ (M1 : zHp), κ M1 = some M' → zZ D n0 p l e { frames := 1, cells := 0, slots := 0, locals := 22 } s m args below meth c 4 0 0 (MQ below (zQc D n0 none M') args s 0 0 (fun q => n0 ≤ q)) 91 [none, none, none, none] [] M1) :
    ∀ (n : Nat) (v1 : Int) (M : zHp), f_Md_arrange_L2 κ a0 n v1 M = some M' → zZ D n0 p l e { frames := 1, cells := 0, slots := 0, locals := 22 } s m args below meth c 4 0 0 (MQ below (zQc D n0 none M') args s 0 0 (fun q => n0 ≤ q)) 2 [some (zv n0 a0), some (zi v1), none, none] [] M := by
  intro n
  induction n with
  | zero =>
    intro v1 M hf
    exact absurd hf (by unfold f_Md_arrange_L2; simp)
  | succ n ih =>
    intro v1 M hf
    unfold f_Md_arrange_L2 at hf
    refine z_iload_n C d_Md_arrange_2 rfl (z_pc (pc' := 3) rfl ?_)
    refine z_aload_n C d_Md_arrange_3 rfl (z_pc (pc' := 4) rfl ?_)
    obtain ⟨x1, h2, hf⟩ := zbind hf
    refine z_geti C fl_Md_75 h2 d_Md_arrange_4 (z_pc (pc' := 7) rfl ?_)
    refine z_icmp_ge (tgt := 91) C d_Md_arrange_7 (by decide) (fun c3 => ?_) (fun c3 => z_pc (pc' := 10) rfl ?_)
    · have hf := zpos c3 hf
      exact z_sub2 (hκ _ hf) trivial
    · have hf := zneg c3 hf
      refine z_aload_n C d_Md_arrange_10 rfl (z_pc (pc' := 11) rfl ?_)
      obtain ⟨x4, h5, hf⟩ := zbind hf
      refine z_getr C fl_Md_26 rfl h5 d_Md_arrange_11 (z_pc (pc' := 14) rfl ?_)
      refine z_iload_n C d_Md_arrange_14 rfl (z_pc (pc' := 15) rfl ?_)
      obtain ⟨x6, h7, hf⟩ := zbind hf
      refine z_iald C h7 d_Md_arrange_15 (z_pc (pc' := 16) rfl ?_)
      refine z_iconst C d_Md_arrange_16 (z_pc (pc' := 17) rfl ?_)
      refine z_icmp_eq (tgt := 33) C d_Md_arrange_17 (by decide) (fun c8 => ?_) (fun c8 => z_pc (pc' := 20) rfl ?_)
      · have hf := zpos c8 hf
        refine z_iconst C d_Md_arrange_33 (z_pc (pc' := 34) rfl ?_)
        refine z_istore_n C d_Md_arrange_34 (by decide) (z_pl (pc' := 35) (L' := [some (zv n0 a0), some (zi v1), some (zi 0), none]) rfl rfl ?_)
        refine z_iconst C d_Md_arrange_35 (z_pc (pc' := 36) rfl ?_)
        refine z_istore_n C d_Md_arrange_36 (by decide) (z_pl (pc' := 37) (L' := [some (zv n0 a0), some (zi v1), some (zi 0), some (zi 0)]) rfl rfl ?_)
        refine z_sub2 (w_Md_arrange_L37 C hr ?_ _ _ _ _ hf) (And.intro rfl (And.intro rfl (And.intro rfl (And.intro rfl trivial))))
        intro v25 M26 hf
        refine z_aload_n C d_Md_arrange_78 rfl (z_pc (pc' := 79) rfl ?_)
        obtain ⟨x27, h28, hf⟩ := zbind hf
        refine z_getr C fl_Md_29 rfl h28 d_Md_arrange_79 (z_pc (pc' := 82) rfl ?_)
        refine z_iload_n C d_Md_arrange_82 rfl (z_pc (pc' := 83) rfl ?_)
        refine z_iload_n C d_Md_arrange_83 rfl (z_pc (pc' := 84) rfl ?_)
        obtain ⟨M29, h30, hf⟩ := zbind hf
        refine z_iast C h30 d_Md_arrange_84 (z_pc (pc' := 85) rfl ?_)
        refine z_iinc C d_Md_arrange_85 rfl (by decide) (z_pl (pc' := 88) (L' := [some (zv n0 a0), some (zi (zadd v1 1)), some (zi v25), none]) rfl rfl ?_)
        refine z_goto (tgt := 2) C d_Md_arrange_88 (by decide) ?_
        exact z_sub2 (ih _ _ hf) (And.intro rfl (And.intro rfl trivial))
      · have hf := zneg c8 hf
        refine z_aload_n C d_Md_arrange_20 rfl (z_pc (pc' := 21) rfl ?_)
        obtain ⟨x31, h32, hf⟩ := zbind hf
        refine z_getr C fl_Md_26 rfl h32 d_Md_arrange_21 (z_pc (pc' := 24) rfl ?_)
        refine z_iload_n C d_Md_arrange_24 rfl (z_pc (pc' := 25) rfl ?_)
        obtain ⟨x33, h34, hf⟩ := zbind hf
        refine z_iald C h34 d_Md_arrange_25 (z_pc (pc' := 26) rfl ?_)
        refine z_iconst C d_Md_arrange_26 (z_pc (pc' := 27) rfl ?_)
        refine z_icmp_eq (tgt := 33) C d_Md_arrange_27 (by decide) (fun c35 => ?_) (fun c35 => z_pc (pc' := 30) rfl ?_)
        · have hf := zpos c35 hf
          refine z_iconst C d_Md_arrange_33 (z_pc (pc' := 34) rfl ?_)
          refine z_istore_n C d_Md_arrange_34 (by decide) (z_pl (pc' := 35) (L' := [some (zv n0 a0), some (zi v1), some (zi 0), none]) rfl rfl ?_)
          refine z_iconst C d_Md_arrange_35 (z_pc (pc' := 36) rfl ?_)
          refine z_istore_n C d_Md_arrange_36 (by decide) (z_pl (pc' := 37) (L' := [some (zv n0 a0), some (zi v1), some (zi 0), some (zi 0)]) rfl rfl ?_)
          refine z_sub2 (w_Md_arrange_L37 C hr ?_ _ _ _ _ hf) (And.intro rfl (And.intro rfl (And.intro rfl (And.intro rfl trivial))))
          intro v36 M37 hf
          refine z_aload_n C d_Md_arrange_78 rfl (z_pc (pc' := 79) rfl ?_)
          obtain ⟨x38, h39, hf⟩ := zbind hf
          refine z_getr C fl_Md_29 rfl h39 d_Md_arrange_79 (z_pc (pc' := 82) rfl ?_)
          refine z_iload_n C d_Md_arrange_82 rfl (z_pc (pc' := 83) rfl ?_)
          refine z_iload_n C d_Md_arrange_83 rfl (z_pc (pc' := 84) rfl ?_)
          obtain ⟨M40, h41, hf⟩ := zbind hf
          refine z_iast C h41 d_Md_arrange_84 (z_pc (pc' := 85) rfl ?_)
          refine z_iinc C d_Md_arrange_85 rfl (by decide) (z_pl (pc' := 88) (L' := [some (zv n0 a0), some (zi (zadd v1 1)), some (zi v36), none]) rfl rfl ?_)
          refine z_goto (tgt := 2) C d_Md_arrange_88 (by decide) ?_
          exact z_sub2 (ih _ _ hf) (And.intro rfl (And.intro rfl trivial))
        · have hf := zneg c35 hf
          refine z_goto (tgt := 85) C d_Md_arrange_30 (by decide) ?_
          refine z_iinc C d_Md_arrange_85 rfl (by decide) (z_pl (pc' := 88) (L' := [some (zv n0 a0), some (zi (zadd v1 1)), none, none]) rfl rfl ?_)
          refine z_goto (tgt := 2) C d_Md_arrange_88 (by decide) ?_
          exact z_sub2 (ih _ _ hf) (And.intro rfl (And.intro rfl trivial))
theorem e_Md_arrange {a0 : Nat} {M : zHp} {q : zHp} (hf : f_Md_arrange a0 M = some q) : zk M a0 = 8 := by
  unfold f_Md_arrange at hf
  exact (zif hf).1
set_option maxHeartbeats 4000000 in
set_option maxRecDepth 100000 in
theorem c_Md_arrange (D : va_G) (n0 : Nat) (l : Launch) {a0 : Nat} {M : zHp} {M' : zHp} (hf : f_Md_arrange a0 M = some M') : zM D n0 l y_Md_arrange b_Md_arrange 4 none 1 22 0 0 [zv n0 a0] M none M' := by
  refine zM.ofZ (by decide) (zcr zcn) (Nat.le_of_ble_eq_true rfl) ?_
  intro p e s m below meth c C hr hnm
  have C : zC D n0 p s m meth c b_Md_arrange 4 "LayerVaultModel" := C
  refine z_eqL (L' := [some (zv n0 a0), none, none, none]) rfl ?_
  unfold f_Md_arrange at hf
  have hf := (zif hf).2
  refine z_iconst C d_Md_arrange_0 (z_pc (pc' := 1) rfl ?_)
  refine z_istore_n C d_Md_arrange_1 (by decide) (z_pl (pc' := 2) (L' := [some (zv n0 a0), some (zi 0), none, none]) rfl rfl ?_)
  refine z_sub2 (w_Md_arrange_L2 C hr ?_ _ _ _ hf) (And.intro rfl (And.intro rfl trivial))
  intro M42 hf
  exact z_vret C hr (Nat.le_of_ble_eq_true rfl) (Nat.le_of_ble_eq_true rfl) d_Md_arrange_91 hf
set_option maxHeartbeats 4000000 in
set_option maxRecDepth 100000 in
theorem w_Md_above_L4 {D : va_G} {n0 : Nat} {l : Launch} {p : Program} {e : Env} {s : State} {m : MethodId} {args : Array Value} {below : List Frame} {meth : Method} {c : Code} {a0 : Nat} {a1 : Int} {r : Int} {M' : zHp} {κ : Int → zHp → Option (Int × zHp)} (C : zC D n0 p s m meth c b_Md_above 5 "LayerVaultModel") (hr : meth.sig.returnType = (some .int))
    (hκ : ∀ (u2 : Int) (M1 : zHp), κ u2 M1 = some (r, M') → zZ D n0 p l e { frames := 0, cells := 0, slots := 0, locals := 0 } s m args below meth c 5 0 0 (MQ below (zQc D n0 (some (zi r)) M') args s 0 0 (fun q => n0 ≤ q)) 90 [none, none, some (zi u2), none, none] [] M1) :
    ∀ (n : Nat) (v2 : Int) (v3 : Int) (M : zHp), f_Md_above_L4 κ a0 a1 n v2 v3 M = some (r, M') → zZ D n0 p l e { frames := 0, cells := 0, slots := 0, locals := 0 } s m args below meth c 5 0 0 (MQ below (zQc D n0 (some (zi r)) M') args s 0 0 (fun q => n0 ≤ q)) 4 [some (zv n0 a0), some (zi a1), some (zi v2), some (zi v3), none] [] M := by
  intro n
  induction n with
  | zero =>
    intro v2 v3 M hf
    exact absurd hf (by unfold f_Md_above_L4; simp)
  | succ n ih =>
    intro v2 v3 M hf
    unfold f_Md_above_L4 at hf
    refine z_iload_n C d_Md_above_4 rfl (z_pc (pc' := 5) rfl ?_)
    refine z_aload_n C d_Md_above_5 rfl (z_pc (pc' := 6) rfl ?_)
    obtain ⟨x1, h2, hf⟩ := zbind hf
    refine z_geti C fl_Md_75 h2 d_Md_above_6 (z_pc (pc' := 9) rfl ?_)
    refine z_icmp_ge (tgt := 90) C d_Md_above_9 (by decide) (fun c3 => ?_) (fun c3 => z_pc (pc' := 12) rfl ?_)
    · have hf := zpos c3 hf
      exact z_sub2 (hκ _ _ hf) (And.intro rfl trivial)
    · have hf := zneg c3 hf
      refine z_aload_n C d_Md_above_12 rfl (z_pc (pc' := 13) rfl ?_)
      obtain ⟨x4, h5, hf⟩ := zbind hf
      refine z_getr C fl_Md_38 rfl h5 d_Md_above_13 (z_pc (pc' := 16) rfl ?_)
      refine z_iload_n C d_Md_above_16 rfl (z_pc (pc' := 17) rfl ?_)
      obtain ⟨x6, h7, hf⟩ := zbind hf
      refine z_bald C h7 d_Md_above_17 (z_pc (pc' := 18) rfl ?_)
      refine z_if_eq (tgt := 55) C d_Md_above_18 (by decide) (fun c8 => ?_) (fun c8 => z_pc (pc' := 21) rfl ?_)
      · have hf := zpos c8 hf
        refine z_iconst C d_Md_above_55 (z_pc (pc' := 56) rfl ?_)
        refine z_istore C d_Md_above_56 (by decide) (z_pl (pc' := 58) (L' := [some (zv n0 a0), some (zi a1), some (zi v2), some (zi v3), some (zi 0)]) rfl rfl ?_)
        refine z_iload C d_Md_above_58 rfl (z_pc (pc' := 60) rfl ?_)
        refine z_if_eq (tgt := 84) C d_Md_above_60 (by decide) (fun _ => ?_) (fun c9 => absurd c9 (by decide))
        refine z_iinc C d_Md_above_84 rfl (by decide) (z_pl (pc' := 87) (L' := [some (zv n0 a0), some (zi a1), some (zi v2), some (zi (zadd v3 1)), some (zi 0)]) rfl rfl ?_)
        refine z_goto (tgt := 4) C d_Md_above_87 (by decide) ?_
        exact z_sub2 (ih _ _ _ hf) (And.intro rfl (And.intro rfl (And.intro rfl (And.intro rfl trivial))))
      · have hf := zneg c8 hf
        refine z_aload_n C d_Md_above_21 rfl (z_pc (pc' := 22) rfl ?_)
        obtain ⟨x10, h11, hf⟩ := zbind hf
        refine z_getr C fl_Md_7 rfl h11 d_Md_above_22 (z_pc (pc' := 25) rfl ?_)
        refine z_iload_n C d_Md_above_25 rfl (z_pc (pc' := 26) rfl ?_)
        obtain ⟨x12, h13, hf⟩ := zbind hf
        refine z_iald C h13 d_Md_above_26 (z_pc (pc' := 27) rfl ?_)
        refine z_aload_n C d_Md_above_27 rfl (z_pc (pc' := 28) rfl ?_)
        obtain ⟨x14, h15, hf⟩ := zbind hf
        refine z_getr C fl_Md_7 rfl h15 d_Md_above_28 (z_pc (pc' := 31) rfl ?_)
        refine z_iload_n C d_Md_above_31 rfl (z_pc (pc' := 32) rfl ?_)
        obtain ⟨x16, h17, hf⟩ := zbind hf
        refine z_iald C h17 d_Md_above_32 (z_pc (pc' := 33) rfl ?_)
        refine z_icmp_ne (tgt := 55) C d_Md_above_33 (by decide) (fun c18 => ?_) (fun c18 => z_pc (pc' := 36) rfl ?_)
        · have hf := zneg c18 hf
          refine z_iconst C d_Md_above_55 (z_pc (pc' := 56) rfl ?_)
          refine z_istore C d_Md_above_56 (by decide) (z_pl (pc' := 58) (L' := [some (zv n0 a0), some (zi a1), some (zi v2), some (zi v3), some (zi 0)]) rfl rfl ?_)
          refine z_iload C d_Md_above_58 rfl (z_pc (pc' := 60) rfl ?_)
          refine z_if_eq (tgt := 84) C d_Md_above_60 (by decide) (fun _ => ?_) (fun c19 => absurd c19 (by decide))
          refine z_iinc C d_Md_above_84 rfl (by decide) (z_pl (pc' := 87) (L' := [some (zv n0 a0), some (zi a1), some (zi v2), some (zi (zadd v3 1)), some (zi 0)]) rfl rfl ?_)
          refine z_goto (tgt := 4) C d_Md_above_87 (by decide) ?_
          exact z_sub2 (ih _ _ _ hf) (And.intro rfl (And.intro rfl (And.intro rfl (And.intro rfl trivial))))
        · have hf := zpos c18 hf
          refine z_aload_n C d_Md_above_36 rfl (z_pc (pc' := 37) rfl ?_)
          obtain ⟨x20, h21, hf⟩ := zbind hf
          refine z_getr C fl_Md_13 rfl h21 d_Md_above_37 (z_pc (pc' := 40) rfl ?_)
          refine z_iload_n C d_Md_above_40 rfl (z_pc (pc' := 41) rfl ?_)
          obtain ⟨x22, h23, hf⟩ := zbind hf
          refine z_iald C h23 d_Md_above_41 (z_pc (pc' := 42) rfl ?_)
          refine z_aload_n C d_Md_above_42 rfl (z_pc (pc' := 43) rfl ?_)
          obtain ⟨x24, h25, hf⟩ := zbind hf
          refine z_getr C fl_Md_13 rfl h25 d_Md_above_43 (z_pc (pc' := 46) rfl ?_)
          refine z_iload_n C d_Md_above_46 rfl (z_pc (pc' := 47) rfl ?_)
          obtain ⟨x26, h27, hf⟩ := zbind hf
          refine z_iald C h27 d_Md_above_47 (z_pc (pc' := 48) rfl ?_)
          refine z_icmp_le (tgt := 55) C d_Md_above_48 (by decide) (fun c28 => ?_) (fun c28 => z_pc (pc' := 51) rfl ?_)
          · have hf := zpos c28 hf
            refine z_iconst C d_Md_above_55 (z_pc (pc' := 56) rfl ?_)
            refine z_istore C d_Md_above_56 (by decide) (z_pl (pc' := 58) (L' := [some (zv n0 a0), some (zi a1), some (zi v2), some (zi v3), some (zi 0)]) rfl rfl ?_)
            refine z_iload C d_Md_above_58 rfl (z_pc (pc' := 60) rfl ?_)
            refine z_if_eq (tgt := 84) C d_Md_above_60 (by decide) (fun _ => ?_) (fun c29 => absurd c29 (by decide))
            refine z_iinc C d_Md_above_84 rfl (by decide) (z_pl (pc' := 87) (L' := [some (zv n0 a0), some (zi a1), some (zi v2), some (zi (zadd v3 1)), some (zi 0)]) rfl rfl ?_)
            refine z_goto (tgt := 4) C d_Md_above_87 (by decide) ?_
            exact z_sub2 (ih _ _ _ hf) (And.intro rfl (And.intro rfl (And.intro rfl (And.intro rfl trivial))))
          · have hf := zneg c28 hf
            refine z_iconst C d_Md_above_51 (z_pc (pc' := 52) rfl ?_)
            refine z_goto (tgt := 56) C d_Md_above_52 (by decide) ?_
            refine z_istore C d_Md_above_56 (by decide) (z_pl (pc' := 58) (L' := [some (zv n0 a0), some (zi a1), some (zi v2), some (zi v3), some (zi 1)]) rfl rfl ?_)
            refine z_iload C d_Md_above_58 rfl (z_pc (pc' := 60) rfl ?_)
            refine z_if_eq (tgt := 84) C d_Md_above_60 (by decide) (fun c30 => absurd c30 (by decide)) (fun _ => z_pc (pc' := 63) rfl ?_)
            refine z_iload_n C d_Md_above_63 rfl (z_pc (pc' := 64) rfl ?_)
            refine z_if_lt (tgt := 82) C d_Md_above_64 (by decide) (fun c31 => ?_) (fun c31 => z_pc (pc' := 67) rfl ?_)
            · have hf := zpos c31 hf
              refine z_iload_n C d_Md_above_82 rfl (z_pc (pc' := 83) rfl ?_)
              refine z_istore_n C d_Md_above_83 (by decide) (z_pl (pc' := 84) (L' := [some (zv n0 a0), some (zi a1), some (zi v3), some (zi v3), some (zi 1)]) rfl rfl ?_)
              refine z_iinc C d_Md_above_84 rfl (by decide) (z_pl (pc' := 87) (L' := [some (zv n0 a0), some (zi a1), some (zi v3), some (zi (zadd v3 1)), some (zi 1)]) rfl rfl ?_)
              refine z_goto (tgt := 4) C d_Md_above_87 (by decide) ?_
              exact z_sub2 (ih _ _ _ hf) (And.intro rfl (And.intro rfl (And.intro rfl (And.intro rfl trivial))))
            · have hf := zneg c31 hf
              refine z_aload_n C d_Md_above_67 rfl (z_pc (pc' := 68) rfl ?_)
              obtain ⟨x32, h33, hf⟩ := zbind hf
              refine z_getr C fl_Md_13 rfl h33 d_Md_above_68 (z_pc (pc' := 71) rfl ?_)
              refine z_iload_n C d_Md_above_71 rfl (z_pc (pc' := 72) rfl ?_)
              obtain ⟨x34, h35, hf⟩ := zbind hf
              refine z_iald C h35 d_Md_above_72 (z_pc (pc' := 73) rfl ?_)
              refine z_aload_n C d_Md_above_73 rfl (z_pc (pc' := 74) rfl ?_)
              obtain ⟨x36, h37, hf⟩ := zbind hf
              refine z_getr C fl_Md_13 rfl h37 d_Md_above_74 (z_pc (pc' := 77) rfl ?_)
              refine z_iload_n C d_Md_above_77 rfl (z_pc (pc' := 78) rfl ?_)
              obtain ⟨x38, h39, hf⟩ := zbind hf
              refine z_iald C h39 d_Md_above_78 (z_pc (pc' := 79) rfl ?_)
              refine z_icmp_ge (tgt := 84) C d_Md_above_79 (by decide) (fun c40 => ?_) (fun c40 => z_pc (pc' := 82) rfl ?_)
              · have hf := zpos c40 hf
                refine z_iinc C d_Md_above_84 rfl (by decide) (z_pl (pc' := 87) (L' := [some (zv n0 a0), some (zi a1), some (zi v2), some (zi (zadd v3 1)), some (zi 1)]) rfl rfl ?_)
                refine z_goto (tgt := 4) C d_Md_above_87 (by decide) ?_
                exact z_sub2 (ih _ _ _ hf) (And.intro rfl (And.intro rfl (And.intro rfl (And.intro rfl trivial))))
              · have hf := zneg c40 hf
                refine z_iload_n C d_Md_above_82 rfl (z_pc (pc' := 83) rfl ?_)
                refine z_istore_n C d_Md_above_83 (by decide) (z_pl (pc' := 84) (L' := [some (zv n0 a0), some (zi a1), some (zi v3), some (zi v3), some (zi 1)]) rfl rfl ?_)
                refine z_iinc C d_Md_above_84 rfl (by decide) (z_pl (pc' := 87) (L' := [some (zv n0 a0), some (zi a1), some (zi v3), some (zi (zadd v3 1)), some (zi 1)]) rfl rfl ?_)
                refine z_goto (tgt := 4) C d_Md_above_87 (by decide) ?_
                exact z_sub2 (ih _ _ _ hf) (And.intro rfl (And.intro rfl (And.intro rfl (And.intro rfl trivial))))
theorem e_Md_above {a0 : Nat} {a1 : Int} {M : zHp} {q : Int × zHp} (hf : f_Md_above a0 a1 M = some q) : zk M a0 = 8 := by
  unfold f_Md_above at hf
  exact (zif hf).1
set_option maxHeartbeats 4000000 in
set_option maxRecDepth 100000 in
theorem c_Md_above (D : va_G) (n0 : Nat) (l : Launch) {a0 : Nat} {a1 : Int} {M : zHp} {r : Int} {M' : zHp} (hf : f_Md_above a0 a1 M = some (r, M')) : zM D n0 l y_Md_above b_Md_above 5 (some .int) 0 0 0 0 [zv n0 a0, zi a1] M (some (zi r)) M' := by
  refine zM.ofZ (by decide) (zcr (zci zcn)) (Nat.le_of_ble_eq_true rfl) ?_
  intro p e s m below meth c C hr hnm
  have C : zC D n0 p s m meth c b_Md_above 5 "LayerVaultModel" := C
  refine z_eqL (L' := [some (zv n0 a0), some (zi a1), none, none, none]) rfl ?_
  unfold f_Md_above at hf
  have hf := (zif hf).2
  refine z_iconst C d_Md_above_0 (z_pc (pc' := 1) rfl ?_)
  refine z_istore_n C d_Md_above_1 (by decide) (z_pl (pc' := 2) (L' := [some (zv n0 a0), some (zi a1), some (zi (-1)), none, none]) rfl rfl ?_)
  refine z_iconst C d_Md_above_2 (z_pc (pc' := 3) rfl ?_)
  refine z_istore_n C d_Md_above_3 (by decide) (z_pl (pc' := 4) (L' := [some (zv n0 a0), some (zi a1), some (zi (-1)), some (zi 0), none]) rfl rfl ?_)
  refine z_sub2 (w_Md_above_L4 C hr ?_ _ _ _ _ hf) (And.intro rfl (And.intro rfl (And.intro rfl (And.intro rfl trivial))))
  intro v41 M42 hf
  refine z_iload_n C d_Md_above_90 rfl (z_pc (pc' := 91) rfl ?_)
  exact z_iret C hr (Nat.le_of_ble_eq_true rfl) (Nat.le_of_ble_eq_true rfl) d_Md_above_91 hf
set_option maxHeartbeats 4000000 in
set_option maxRecDepth 100000 in
theorem w_Md_parted_L5 {D : va_G} {n0 : Nat} {l : Launch} {p : Program} {e : Env} {s : State} {m : MethodId} {args : Array Value} {below : List Frame} {meth : Method} {c : Code} {a0 : Nat} {a1 : Int} {a2 : Int} {r : Int} {M' : zHp} {κ : Int → zHp → Option (Int × zHp)} (C : zC D n0 p s m meth c b_Md_parted 5 "LayerVaultModel") (hr : meth.sig.returnType = (some .boolean))
    (hκ : ∀ (u3 : Int) (M1 : zHp), κ u3 M1 = some (r, M') → zZ D n0 p l e { frames := 0, cells := 0, slots := 0, locals := 0 } s m args below meth c 5 0 0 (MQ below (zQc D n0 (some (zi r)) M') args s 0 0 (fun q => n0 ≤ q)) 69 [none, none, none, some (zi u3), none] [] M1) :
    ∀ (n : Nat) (v3 : Int) (v4 : Int) (M : zHp), f_Md_parted_L5 κ a0 a1 a2 n v3 v4 M = some (r, M') → zZ D n0 p l e { frames := 0, cells := 0, slots := 0, locals := 0 } s m args below meth c 5 0 0 (MQ below (zQc D n0 (some (zi r)) M') args s 0 0 (fun q => n0 ≤ q)) 5 [some (zv n0 a0), some (zi a1), some (zi a2), some (zi v3), some (zi v4)] [] M := by
  intro n
  induction n with
  | zero =>
    intro v3 v4 M hf
    exact absurd hf (by unfold f_Md_parted_L5; simp)
  | succ n ih =>
    intro v3 v4 M hf
    unfold f_Md_parted_L5 at hf
    refine z_iload C d_Md_parted_5 rfl (z_pc (pc' := 7) rfl ?_)
    refine z_iconst C d_Md_parted_7 (z_pc (pc' := 8) rfl ?_)
    refine z_icmp_ge (tgt := 69) C d_Md_parted_8 (by decide) (fun c1 => ?_) (fun c1 => z_pc (pc' := 11) rfl ?_)
    · have hf := zpos c1 hf
      exact z_sub2 (hκ _ _ hf) (And.intro rfl trivial)
    · have hf := zneg c1 hf
      refine z_iload_n C d_Md_parted_11 rfl (z_pc (pc' := 12) rfl ?_)
      refine z_if_ne (tgt := 57) C d_Md_parted_12 (by decide) (fun c2 => ?_) (fun c2 => z_pc (pc' := 15) rfl ?_)
      · have hf := zneg c2 hf
        refine z_iconst C d_Md_parted_57 (z_pc (pc' := 58) rfl ?_)
        refine z_goto (tgt := 62) C d_Md_parted_58 (by decide) ?_
        refine z_istore_n C d_Md_parted_62 (by decide) (z_pl (pc' := 63) (L' := [some (zv n0 a0), some (zi a1), some (zi a2), some (zi 1), some (zi v4)]) rfl rfl ?_)
        refine z_iinc C d_Md_parted_63 rfl (by decide) (z_pl (pc' := 66) (L' := [some (zv n0 a0), some (zi a1), some (zi a2), some (zi 1), some (zi (zadd v4 1))]) rfl rfl ?_)
        refine z_goto (tgt := 5) C d_Md_parted_66 (by decide) ?_
        exact z_sub2 (ih _ _ _ hf) (And.intro rfl (And.intro rfl (And.intro rfl (And.intro rfl (And.intro rfl trivial)))))
      · have hf := zpos c2 hf
        refine z_aload_n C d_Md_parted_15 rfl (z_pc (pc' := 16) rfl ?_)
        obtain ⟨x3, h4, hf⟩ := zbind hf
        refine z_getr C fl_Md_53 rfl h4 d_Md_parted_16 (z_pc (pc' := 19) rfl ?_)
        refine z_iload C d_Md_parted_19 rfl (z_pc (pc' := 21) rfl ?_)
        obtain ⟨x5, h6, hf⟩ := zbind hf
        refine z_bald C h6 d_Md_parted_21 (z_pc (pc' := 22) rfl ?_)
        refine z_if_eq (tgt := 61) C d_Md_parted_22 (by decide) (fun c7 => ?_) (fun c7 => z_pc (pc' := 25) rfl ?_)
        · have hf := zpos c7 hf
          refine z_iconst C d_Md_parted_61 (z_pc (pc' := 62) rfl ?_)
          refine z_istore_n C d_Md_parted_62 (by decide) (z_pl (pc' := 63) (L' := [some (zv n0 a0), some (zi a1), some (zi a2), some (zi 0), some (zi v4)]) rfl rfl ?_)
          refine z_iinc C d_Md_parted_63 rfl (by decide) (z_pl (pc' := 66) (L' := [some (zv n0 a0), some (zi a1), some (zi a2), some (zi 0), some (zi (zadd v4 1))]) rfl rfl ?_)
          refine z_goto (tgt := 5) C d_Md_parted_66 (by decide) ?_
          exact z_sub2 (ih _ _ _ hf) (And.intro rfl (And.intro rfl (And.intro rfl (And.intro rfl (And.intro rfl trivial)))))
        · have hf := zneg c7 hf
          refine z_aload_n C d_Md_parted_25 rfl (z_pc (pc' := 26) rfl ?_)
          obtain ⟨x8, h9, hf⟩ := zbind hf
          refine z_getr C fl_Md_13 rfl h9 d_Md_parted_26 (z_pc (pc' := 29) rfl ?_)
          refine z_iload_n C d_Md_parted_29 rfl (z_pc (pc' := 30) rfl ?_)
          obtain ⟨x10, h11, hf⟩ := zbind hf
          refine z_iald C h11 d_Md_parted_30 (z_pc (pc' := 31) rfl ?_)
          refine z_aload_n C d_Md_parted_31 rfl (z_pc (pc' := 32) rfl ?_)
          obtain ⟨x12, h13, hf⟩ := zbind hf
          refine z_getr C fl_Md_56 rfl h13 d_Md_parted_32 (z_pc (pc' := 35) rfl ?_)
          refine z_iload C d_Md_parted_35 rfl (z_pc (pc' := 37) rfl ?_)
          obtain ⟨x14, h15, hf⟩ := zbind hf
          refine z_iald C h15 d_Md_parted_37 (z_pc (pc' := 38) rfl ?_)
          refine z_icmp_gt (tgt := 61) C d_Md_parted_38 (by decide) (fun c16 => ?_) (fun c16 => z_pc (pc' := 41) rfl ?_)
          · have hf := zpos c16 hf
            refine z_iconst C d_Md_parted_61 (z_pc (pc' := 62) rfl ?_)
            refine z_istore_n C d_Md_parted_62 (by decide) (z_pl (pc' := 63) (L' := [some (zv n0 a0), some (zi a1), some (zi a2), some (zi 0), some (zi v4)]) rfl rfl ?_)
            refine z_iinc C d_Md_parted_63 rfl (by decide) (z_pl (pc' := 66) (L' := [some (zv n0 a0), some (zi a1), some (zi a2), some (zi 0), some (zi (zadd v4 1))]) rfl rfl ?_)
            refine z_goto (tgt := 5) C d_Md_parted_66 (by decide) ?_
            exact z_sub2 (ih _ _ _ hf) (And.intro rfl (And.intro rfl (And.intro rfl (And.intro rfl (And.intro rfl trivial)))))
          · have hf := zneg c16 hf
            refine z_aload_n C d_Md_parted_41 rfl (z_pc (pc' := 42) rfl ?_)
            obtain ⟨x17, h18, hf⟩ := zbind hf
            refine z_getr C fl_Md_56 rfl h18 d_Md_parted_42 (z_pc (pc' := 45) rfl ?_)
            refine z_iload C d_Md_parted_45 rfl (z_pc (pc' := 47) rfl ?_)
            obtain ⟨x19, h20, hf⟩ := zbind hf
            refine z_iald C h20 d_Md_parted_47 (z_pc (pc' := 48) rfl ?_)
            refine z_aload_n C d_Md_parted_48 rfl (z_pc (pc' := 49) rfl ?_)
            obtain ⟨x21, h22, hf⟩ := zbind hf
            refine z_getr C fl_Md_13 rfl h22 d_Md_parted_49 (z_pc (pc' := 52) rfl ?_)
            refine z_iload_n C d_Md_parted_52 rfl (z_pc (pc' := 53) rfl ?_)
            obtain ⟨x23, h24, hf⟩ := zbind hf
            refine z_iald C h24 d_Md_parted_53 (z_pc (pc' := 54) rfl ?_)
            refine z_icmp_ge (tgt := 61) C d_Md_parted_54 (by decide) (fun c25 => ?_) (fun c25 => z_pc (pc' := 57) rfl ?_)
            · have hf := zpos c25 hf
              refine z_iconst C d_Md_parted_61 (z_pc (pc' := 62) rfl ?_)
              refine z_istore_n C d_Md_parted_62 (by decide) (z_pl (pc' := 63) (L' := [some (zv n0 a0), some (zi a1), some (zi a2), some (zi 0), some (zi v4)]) rfl rfl ?_)
              refine z_iinc C d_Md_parted_63 rfl (by decide) (z_pl (pc' := 66) (L' := [some (zv n0 a0), some (zi a1), some (zi a2), some (zi 0), some (zi (zadd v4 1))]) rfl rfl ?_)
              refine z_goto (tgt := 5) C d_Md_parted_66 (by decide) ?_
              exact z_sub2 (ih _ _ _ hf) (And.intro rfl (And.intro rfl (And.intro rfl (And.intro rfl (And.intro rfl trivial)))))
            · have hf := zneg c25 hf
              refine z_iconst C d_Md_parted_57 (z_pc (pc' := 58) rfl ?_)
              refine z_goto (tgt := 62) C d_Md_parted_58 (by decide) ?_
              refine z_istore_n C d_Md_parted_62 (by decide) (z_pl (pc' := 63) (L' := [some (zv n0 a0), some (zi a1), some (zi a2), some (zi 1), some (zi v4)]) rfl rfl ?_)
              refine z_iinc C d_Md_parted_63 rfl (by decide) (z_pl (pc' := 66) (L' := [some (zv n0 a0), some (zi a1), some (zi a2), some (zi 1), some (zi (zadd v4 1))]) rfl rfl ?_)
              refine z_goto (tgt := 5) C d_Md_parted_66 (by decide) ?_
              exact z_sub2 (ih _ _ _ hf) (And.intro rfl (And.intro rfl (And.intro rfl (And.intro rfl (And.intro rfl trivial)))))
theorem e_Md_parted {a0 : Nat} {a1 : Int} {a2 : Int} {M : zHp} {q : Int × zHp} (hf : f_Md_parted a0 a1 a2 M = some q) : zk M a0 = 8 := by
  unfold f_Md_parted at hf
  exact (zif hf).1
set_option maxHeartbeats 4000000 in
set_option maxRecDepth 100000 in
theorem c_Md_parted (D : va_G) (n0 : Nat) (l : Launch) {a0 : Nat} {a1 : Int} {a2 : Int} {M : zHp} {r : Int} {M' : zHp} (hf : f_Md_parted a0 a1 a2 M = some (r, M')) : zM D n0 l y_Md_parted b_Md_parted 5 (some .boolean) 0 0 0 0 [zv n0 a0, zi a1, zi a2] M (some (zi r)) M' := by
  refine zM.ofZ (by decide) (zcr (zci (zci zcn))) (Nat.le_of_ble_eq_true rfl) ?_
  intro p e s m below meth c C hr hnm
  have C : zC D n0 p s m meth c b_Md_parted 5 "LayerVaultModel" := C
  refine z_eqL (L' := [some (zv n0 a0), some (zi a1), some (zi a2), none, none]) rfl ?_
  unfold f_Md_parted at hf
  have hf := (zif hf).2
  refine z_iconst C d_Md_parted_0 (z_pc (pc' := 1) rfl ?_)
  refine z_istore_n C d_Md_parted_1 (by decide) (z_pl (pc' := 2) (L' := [some (zv n0 a0), some (zi a1), some (zi a2), some (zi 0), none]) rfl rfl ?_)
  refine z_iconst C d_Md_parted_2 (z_pc (pc' := 3) rfl ?_)
  refine z_istore C d_Md_parted_3 (by decide) (z_pl (pc' := 5) (L' := [some (zv n0 a0), some (zi a1), some (zi a2), some (zi 0), some (zi 0)]) rfl rfl ?_)
  refine z_sub2 (w_Md_parted_L5 C hr ?_ _ _ _ _ hf) (And.intro rfl (And.intro rfl (And.intro rfl (And.intro rfl (And.intro rfl trivial)))))
  intro v26 M27 hf
  refine z_iload_n C d_Md_parted_69 rfl (z_pc (pc' := 70) rfl ?_)
  obtain ⟨hz, hf⟩ := zif hf
  exact z_zret C hr hz (Nat.le_of_ble_eq_true rfl) (Nat.le_of_ble_eq_true rfl) d_Md_parted_70 hf
set_option maxHeartbeats 4000000 in
set_option maxRecDepth 100000 in
theorem w_Md_isLowest_L4 {D : va_G} {n0 : Nat} {l : Launch} {p : Program} {e : Env} {s : State} {m : MethodId} {args : Array Value} {below : List Frame} {meth : Method} {c : Code} {a0 : Nat} {a1 : Int} {r : Int} {M' : zHp} {κ : Int → zHp → Option (Int × zHp)} (C : zC D n0 p s m meth c b_Md_isLowest 4 "LayerVaultModel") (hr : meth.sig.returnType = (some .boolean))
    (hκ : ∀ (u2 : Int) (M1 : zHp), κ u2 M1 = some (r, M') → zZ D n0 p l e { frames := 0, cells := 0, slots := 0, locals := 0 } s m args below meth c 4 0 0 (MQ below (zQc D n0 (some (zi r)) M') args s 0 0 (fun q => n0 ≤ q)) 68 [none, none, some (zi u2), none] [] M1) :
    ∀ (n : Nat) (v2 : Int) (v3 : Int) (M : zHp), f_Md_isLowest_L4 κ a0 a1 n v2 v3 M = some (r, M') → zZ D n0 p l e { frames := 0, cells := 0, slots := 0, locals := 0 } s m args below meth c 4 0 0 (MQ below (zQc D n0 (some (zi r)) M') args s 0 0 (fun q => n0 ≤ q)) 4 [some (zv n0 a0), some (zi a1), some (zi v2), some (zi v3)] [] M := by
  intro n
  induction n with
  | zero =>
    intro v2 v3 M hf
    exact absurd hf (by unfold f_Md_isLowest_L4; simp)
  | succ n ih =>
    intro v2 v3 M hf
    unfold f_Md_isLowest_L4 at hf
    refine z_iload_n C d_Md_isLowest_4 rfl (z_pc (pc' := 5) rfl ?_)
    refine z_aload_n C d_Md_isLowest_5 rfl (z_pc (pc' := 6) rfl ?_)
    obtain ⟨x1, h2, hf⟩ := zbind hf
    refine z_geti C fl_Md_75 h2 d_Md_isLowest_6 (z_pc (pc' := 9) rfl ?_)
    refine z_icmp_ge (tgt := 68) C d_Md_isLowest_9 (by decide) (fun c3 => ?_) (fun c3 => z_pc (pc' := 12) rfl ?_)
    · have hf := zpos c3 hf
      exact z_sub2 (hκ _ _ hf) (And.intro rfl trivial)
    · have hf := zneg c3 hf
      refine z_aload_n C d_Md_isLowest_12 rfl (z_pc (pc' := 13) rfl ?_)
      obtain ⟨x4, h5, hf⟩ := zbind hf
      refine z_getr C fl_Md_38 rfl h5 d_Md_isLowest_13 (z_pc (pc' := 16) rfl ?_)
      refine z_iload_n C d_Md_isLowest_16 rfl (z_pc (pc' := 17) rfl ?_)
      obtain ⟨x6, h7, hf⟩ := zbind hf
      refine z_bald C h7 d_Md_isLowest_17 (z_pc (pc' := 18) rfl ?_)
      refine z_if_eq (tgt := 62) C d_Md_isLowest_18 (by decide) (fun c8 => ?_) (fun c8 => z_pc (pc' := 21) rfl ?_)
      · have hf := zpos c8 hf
        refine z_iinc C d_Md_isLowest_62 rfl (by decide) (z_pl (pc' := 65) (L' := [some (zv n0 a0), some (zi a1), some (zi v2), some (zi (zadd v3 1))]) rfl rfl ?_)
        refine z_goto (tgt := 4) C d_Md_isLowest_65 (by decide) ?_
        exact z_sub2 (ih _ _ _ hf) (And.intro rfl (And.intro rfl (And.intro rfl (And.intro rfl trivial))))
      · have hf := zneg c8 hf
        refine z_aload_n C d_Md_isLowest_21 rfl (z_pc (pc' := 22) rfl ?_)
        obtain ⟨x9, h10, hf⟩ := zbind hf
        refine z_getr C fl_Md_41 rfl h10 d_Md_isLowest_22 (z_pc (pc' := 25) rfl ?_)
        refine z_iload_n C d_Md_isLowest_25 rfl (z_pc (pc' := 26) rfl ?_)
        obtain ⟨x11, h12, hf⟩ := zbind hf
        refine z_bald C h12 d_Md_isLowest_26 (z_pc (pc' := 27) rfl ?_)
        refine z_if_ne (tgt := 62) C d_Md_isLowest_27 (by decide) (fun c13 => ?_) (fun c13 => z_pc (pc' := 30) rfl ?_)
        · have hf := zneg c13 hf
          refine z_iinc C d_Md_isLowest_62 rfl (by decide) (z_pl (pc' := 65) (L' := [some (zv n0 a0), some (zi a1), some (zi v2), some (zi (zadd v3 1))]) rfl rfl ?_)
          refine z_goto (tgt := 4) C d_Md_isLowest_65 (by decide) ?_
          exact z_sub2 (ih _ _ _ hf) (And.intro rfl (And.intro rfl (And.intro rfl (And.intro rfl trivial))))
        · have hf := zpos c13 hf
          refine z_aload_n C d_Md_isLowest_30 rfl (z_pc (pc' := 31) rfl ?_)
          obtain ⟨x14, h15, hf⟩ := zbind hf
          refine z_getr C fl_Md_7 rfl h15 d_Md_isLowest_31 (z_pc (pc' := 34) rfl ?_)
          refine z_iload_n C d_Md_isLowest_34 rfl (z_pc (pc' := 35) rfl ?_)
          obtain ⟨x16, h17, hf⟩ := zbind hf
          refine z_iald C h17 d_Md_isLowest_35 (z_pc (pc' := 36) rfl ?_)
          refine z_aload_n C d_Md_isLowest_36 rfl (z_pc (pc' := 37) rfl ?_)
          obtain ⟨x18, h19, hf⟩ := zbind hf
          refine z_getr C fl_Md_7 rfl h19 d_Md_isLowest_37 (z_pc (pc' := 40) rfl ?_)
          refine z_iload_n C d_Md_isLowest_40 rfl (z_pc (pc' := 41) rfl ?_)
          obtain ⟨x20, h21, hf⟩ := zbind hf
          refine z_iald C h21 d_Md_isLowest_41 (z_pc (pc' := 42) rfl ?_)
          refine z_icmp_ne (tgt := 62) C d_Md_isLowest_42 (by decide) (fun c22 => ?_) (fun c22 => z_pc (pc' := 45) rfl ?_)
          · have hf := zneg c22 hf
            refine z_iinc C d_Md_isLowest_62 rfl (by decide) (z_pl (pc' := 65) (L' := [some (zv n0 a0), some (zi a1), some (zi v2), some (zi (zadd v3 1))]) rfl rfl ?_)
            refine z_goto (tgt := 4) C d_Md_isLowest_65 (by decide) ?_
            exact z_sub2 (ih _ _ _ hf) (And.intro rfl (And.intro rfl (And.intro rfl (And.intro rfl trivial))))
          · have hf := zpos c22 hf
            refine z_aload_n C d_Md_isLowest_45 rfl (z_pc (pc' := 46) rfl ?_)
            obtain ⟨x23, h24, hf⟩ := zbind hf
            refine z_getr C fl_Md_13 rfl h24 d_Md_isLowest_46 (z_pc (pc' := 49) rfl ?_)
            refine z_iload_n C d_Md_isLowest_49 rfl (z_pc (pc' := 50) rfl ?_)
            obtain ⟨x25, h26, hf⟩ := zbind hf
            refine z_iald C h26 d_Md_isLowest_50 (z_pc (pc' := 51) rfl ?_)
            refine z_aload_n C d_Md_isLowest_51 rfl (z_pc (pc' := 52) rfl ?_)
            obtain ⟨x27, h28, hf⟩ := zbind hf
            refine z_getr C fl_Md_13 rfl h28 d_Md_isLowest_52 (z_pc (pc' := 55) rfl ?_)
            refine z_iload_n C d_Md_isLowest_55 rfl (z_pc (pc' := 56) rfl ?_)
            obtain ⟨x29, h30, hf⟩ := zbind hf
            refine z_iald C h30 d_Md_isLowest_56 (z_pc (pc' := 57) rfl ?_)
            refine z_icmp_ge (tgt := 62) C d_Md_isLowest_57 (by decide) (fun c31 => ?_) (fun c31 => z_pc (pc' := 60) rfl ?_)
            · have hf := zpos c31 hf
              refine z_iinc C d_Md_isLowest_62 rfl (by decide) (z_pl (pc' := 65) (L' := [some (zv n0 a0), some (zi a1), some (zi v2), some (zi (zadd v3 1))]) rfl rfl ?_)
              refine z_goto (tgt := 4) C d_Md_isLowest_65 (by decide) ?_
              exact z_sub2 (ih _ _ _ hf) (And.intro rfl (And.intro rfl (And.intro rfl (And.intro rfl trivial))))
            · have hf := zneg c31 hf
              refine z_iconst C d_Md_isLowest_60 (z_pc (pc' := 61) rfl ?_)
              refine z_istore_n C d_Md_isLowest_61 (by decide) (z_pl (pc' := 62) (L' := [some (zv n0 a0), some (zi a1), some (zi 0), some (zi v3)]) rfl rfl ?_)
              refine z_iinc C d_Md_isLowest_62 rfl (by decide) (z_pl (pc' := 65) (L' := [some (zv n0 a0), some (zi a1), some (zi 0), some (zi (zadd v3 1))]) rfl rfl ?_)
              refine z_goto (tgt := 4) C d_Md_isLowest_65 (by decide) ?_
              exact z_sub2 (ih _ _ _ hf) (And.intro rfl (And.intro rfl (And.intro rfl (And.intro rfl trivial))))
theorem e_Md_isLowest {a0 : Nat} {a1 : Int} {M : zHp} {q : Int × zHp} (hf : f_Md_isLowest a0 a1 M = some q) : zk M a0 = 8 := by
  unfold f_Md_isLowest at hf
  exact (zif hf).1
set_option maxHeartbeats 4000000 in
set_option maxRecDepth 100000 in
theorem c_Md_isLowest (D : va_G) (n0 : Nat) (l : Launch) {a0 : Nat} {a1 : Int} {M : zHp} {r : Int} {M' : zHp} (hf : f_Md_isLowest a0 a1 M = some (r, M')) : zM D n0 l y_Md_isLowest b_Md_isLowest 4 (some .boolean) 0 0 0 0 [zv n0 a0, zi a1] M (some (zi r)) M' := by
  refine zM.ofZ (by decide) (zcr (zci zcn)) (Nat.le_of_ble_eq_true rfl) ?_
  intro p e s m below meth c C hr hnm
  have C : zC D n0 p s m meth c b_Md_isLowest 4 "LayerVaultModel" := C
  refine z_eqL (L' := [some (zv n0 a0), some (zi a1), none, none]) rfl ?_
  unfold f_Md_isLowest at hf
  have hf := (zif hf).2
  refine z_iconst C d_Md_isLowest_0 (z_pc (pc' := 1) rfl ?_)
  refine z_istore_n C d_Md_isLowest_1 (by decide) (z_pl (pc' := 2) (L' := [some (zv n0 a0), some (zi a1), some (zi 1), none]) rfl rfl ?_)
  refine z_iconst C d_Md_isLowest_2 (z_pc (pc' := 3) rfl ?_)
  refine z_istore_n C d_Md_isLowest_3 (by decide) (z_pl (pc' := 4) (L' := [some (zv n0 a0), some (zi a1), some (zi 1), some (zi 0)]) rfl rfl ?_)
  refine z_sub2 (w_Md_isLowest_L4 C hr ?_ _ _ _ _ hf) (And.intro rfl (And.intro rfl (And.intro rfl (And.intro rfl trivial))))
  intro v32 M33 hf
  refine z_iload_n C d_Md_isLowest_68 rfl (z_pc (pc' := 69) rfl ?_)
  obtain ⟨hz, hf⟩ := zif hf
  exact z_zret C hr hz (Nat.le_of_ble_eq_true rfl) (Nat.le_of_ble_eq_true rfl) d_Md_isLowest_69 hf
set_option maxHeartbeats 4000000 in
set_option maxRecDepth 100000 in
theorem w_Md_sift_L2 {D : va_G} {n0 : Nat} {l : Launch} {p : Program} {e : Env} {s : State} {m : MethodId} {args : Array Value} {below : List Frame} {meth : Method} {c : Code} {a0 : Nat} {a1 : Int} {r : Int} {M' : zHp} {κ : zHp → Option (Int × zHp)} (C : zC D n0 p s m meth c b_Md_sift 4 "LayerVaultModel") (hr : meth.sig.returnType = (some .int))
    (hκ : ∀ (M1 : zHp), κ M1 = some (r, M') → zZ D n0 p l e { frames := 1, cells := 0, slots := 0, locals := 24 } s m args below meth c 4 0 0 (MQ below (zQc D n0 (some (zi r)) M') args s 0 0 (fun q => n0 ≤ q)) 65 [some (zv n0 a0), some (zi a1), none, none] [] M1) :
    ∀ (n : Nat) (v2 : Int) (M : zHp), f_Md_sift_L2 κ a0 n v2 M = some (r, M') → zZ D n0 p l e { frames := 1, cells := 0, slots := 0, locals := 24 } s m args below meth c 4 0 0 (MQ below (zQc D n0 (some (zi r)) M') args s 0 0 (fun q => n0 ≤ q)) 2 [some (zv n0 a0), some (zi a1), some (zi v2), none] [] M := by
  intro n
  induction n with
  | zero =>
    intro v2 M hf
    exact absurd hf (by unfold f_Md_sift_L2; simp)
  | succ n ih =>
    intro v2 M hf
    unfold f_Md_sift_L2 at hf
    refine z_iload_n C d_Md_sift_2 rfl (z_pc (pc' := 3) rfl ?_)
    refine z_aload_n C d_Md_sift_3 rfl (z_pc (pc' := 4) rfl ?_)
    obtain ⟨x1, h2, hf⟩ := zbind hf
    refine z_geti C fl_Md_75 h2 d_Md_sift_4 (z_pc (pc' := 7) rfl ?_)
    refine z_icmp_ge (tgt := 65) C d_Md_sift_7 (by decide) (fun c3 => ?_) (fun c3 => z_pc (pc' := 10) rfl ?_)
    · have hf := zpos c3 hf
      exact z_sub2 (hκ _ hf) (And.intro rfl (And.intro rfl trivial))
    · have hf := zneg c3 hf
      refine z_aload_n C d_Md_sift_10 rfl (z_pc (pc' := 11) rfl ?_)
      obtain ⟨x4, h5, hf⟩ := zbind hf
      refine z_getr C fl_Md_41 rfl h5 d_Md_sift_11 (z_pc (pc' := 14) rfl ?_)
      refine z_iload_n C d_Md_sift_14 rfl (z_pc (pc' := 15) rfl ?_)
      refine z_iconst C d_Md_sift_15 (z_pc (pc' := 16) rfl ?_)
      obtain ⟨M6, h7, hf⟩ := zbind hf
      refine z_bast C h7 d_Md_sift_16 (z_pc (pc' := 17) rfl ?_)
      refine z_aload_n C d_Md_sift_17 rfl (z_pc (pc' := 18) rfl ?_)
      obtain ⟨x8, h9, hf⟩ := zbind hf
      refine z_getr C fl_Md_38 rfl h9 d_Md_sift_18 (z_pc (pc' := 21) rfl ?_)
      refine z_iload_n C d_Md_sift_21 rfl (z_pc (pc' := 22) rfl ?_)
      obtain ⟨x10, h11, hf⟩ := zbind hf
      refine z_bald C h11 d_Md_sift_22 (z_pc (pc' := 23) rfl ?_)
      refine z_if_ne (tgt := 29) C d_Md_sift_23 (by decide) (fun c12 => ?_) (fun c12 => z_pc (pc' := 26) rfl ?_)
      · have hf := zneg c12 hf
        refine z_aload_n C d_Md_sift_29 rfl (z_pc (pc' := 30) rfl ?_)
        refine z_iload_n C d_Md_sift_30 rfl (z_pc (pc' := 31) rfl ?_)
        obtain ⟨x15, M14, h13, hf⟩ := zb2_inv hf
        refine z_callV C [zi v2] [] kv_Md_82 (c_Md_above D n0 l h13) (e_Md_above h13) ⟨(Nat.le_of_ble_eq_true rfl), (Nat.le_of_ble_eq_true rfl)⟩ (Nat.le_of_ble_eq_true rfl) ⟨(Nat.le_of_ble_eq_true rfl), (Nat.le_of_ble_eq_true rfl)⟩ d_Md_sift_31 (z_pc (pc' := 34) rfl ?_)
        refine z_istore_n C d_Md_sift_34 (by decide) (z_pl (pc' := 35) (L' := [some (zv n0 a0), some (zi a1), some (zi v2), some (zi x15)]) rfl rfl ?_)
        refine z_aload_n C d_Md_sift_35 rfl (z_pc (pc' := 36) rfl ?_)
        obtain ⟨x16, h17, hf⟩ := zbind hf
        refine z_getr C fl_Md_41 rfl h17 d_Md_sift_36 (z_pc (pc' := 39) rfl ?_)
        refine z_iload_n C d_Md_sift_39 rfl (z_pc (pc' := 40) rfl ?_)
        refine z_iload_n C d_Md_sift_40 rfl (z_pc (pc' := 41) rfl ?_)
        refine z_if_lt (tgt := 57) C d_Md_sift_41 (by decide) (fun c18 => ?_) (fun c18 => z_pc (pc' := 44) rfl ?_)
        · have hf := zpos c18 hf
          refine z_iconst C d_Md_sift_57 (z_pc (pc' := 58) rfl ?_)
          obtain ⟨M19, h20, hf⟩ := zbind hf
          refine z_bast C h20 d_Md_sift_58 (z_pc (pc' := 59) rfl ?_)
          refine z_iinc C d_Md_sift_59 rfl (by decide) (z_pl (pc' := 62) (L' := [some (zv n0 a0), some (zi a1), some (zi (zadd v2 1)), some (zi x15)]) rfl rfl ?_)
          refine z_goto (tgt := 2) C d_Md_sift_62 (by decide) ?_
          exact z_sub2 (ih _ _ hf) (And.intro rfl (And.intro rfl (And.intro rfl trivial)))
        · have hf := zneg c18 hf
          refine z_aload_n C d_Md_sift_44 rfl (z_pc (pc' := 45) rfl ?_)
          refine z_iload_n C d_Md_sift_45 rfl (z_pc (pc' := 46) rfl ?_)
          refine z_iload_n C d_Md_sift_46 rfl (z_pc (pc' := 47) rfl ?_)
          obtain ⟨x23, M22, h21, hf⟩ := zb2_inv hf
          refine z_callV C [zi v2, zi x15] [zi v2, zv n0 x16] kv_Md_86 (c_Md_parted D n0 l h21) (e_Md_parted h21) ⟨(Nat.le_of_ble_eq_true rfl), (Nat.le_of_ble_eq_true rfl)⟩ (Nat.le_of_ble_eq_true rfl) ⟨(Nat.le_of_ble_eq_true rfl), (Nat.le_of_ble_eq_true rfl)⟩ d_Md_sift_47 (z_pc (pc' := 50) rfl ?_)
          refine z_if_ne (tgt := 57) C d_Md_sift_50 (by decide) (fun c24 => ?_) (fun c24 => z_pc (pc' := 53) rfl ?_)
          · have hf := zneg c24 hf
            refine z_iconst C d_Md_sift_57 (z_pc (pc' := 58) rfl ?_)
            obtain ⟨M25, h26, hf⟩ := zbind hf
            refine z_bast C h26 d_Md_sift_58 (z_pc (pc' := 59) rfl ?_)
            refine z_iinc C d_Md_sift_59 rfl (by decide) (z_pl (pc' := 62) (L' := [some (zv n0 a0), some (zi a1), some (zi (zadd v2 1)), some (zi x15)]) rfl rfl ?_)
            refine z_goto (tgt := 2) C d_Md_sift_62 (by decide) ?_
            exact z_sub2 (ih _ _ hf) (And.intro rfl (And.intro rfl (And.intro rfl trivial)))
          · have hf := zpos c24 hf
            refine z_iconst C d_Md_sift_53 (z_pc (pc' := 54) rfl ?_)
            refine z_goto (tgt := 58) C d_Md_sift_54 (by decide) ?_
            obtain ⟨M27, h28, hf⟩ := zbind hf
            refine z_bast C h28 d_Md_sift_58 (z_pc (pc' := 59) rfl ?_)
            refine z_iinc C d_Md_sift_59 rfl (by decide) (z_pl (pc' := 62) (L' := [some (zv n0 a0), some (zi a1), some (zi (zadd v2 1)), some (zi x15)]) rfl rfl ?_)
            refine z_goto (tgt := 2) C d_Md_sift_62 (by decide) ?_
            exact z_sub2 (ih _ _ hf) (And.intro rfl (And.intro rfl (And.intro rfl trivial)))
      · have hf := zpos c12 hf
        refine z_goto (tgt := 59) C d_Md_sift_26 (by decide) ?_
        refine z_iinc C d_Md_sift_59 rfl (by decide) (z_pl (pc' := 62) (L' := [some (zv n0 a0), some (zi a1), some (zi (zadd v2 1)), none]) rfl rfl ?_)
        refine z_goto (tgt := 2) C d_Md_sift_62 (by decide) ?_
        exact z_sub2 (ih _ _ hf) (And.intro rfl (And.intro rfl (And.intro rfl trivial)))
set_option maxHeartbeats 4000000 in
set_option maxRecDepth 100000 in
theorem w_Md_sift_L82 {D : va_G} {n0 : Nat} {l : Launch} {p : Program} {e : Env} {s : State} {m : MethodId} {args : Array Value} {below : List Frame} {meth : Method} {c : Code} {a0 : Nat} {a1 : Int} {a2 : Int} {r : Int} {M' : zHp} {κ : zHp → Option (Int × zHp)} (C : zC D n0 p s m meth c b_Md_sift 4 "LayerVaultModel") (hr : meth.sig.returnType = (some .int))
    (hκ : ∀ (M1 : zHp), κ M1 = some (r, M') → zZ D n0 p l e { frames := 1, cells := 0, slots := 0, locals := 24 } s m args below meth c 4 0 0 (MQ below (zQc D n0 (some (zi r)) M') args s 0 0 (fun q => n0 ≤ q)) 147 [some (zv n0 a0), some (zi a1), some (zi a2), none] [] M1) :
    ∀ (n : Nat) (v3 : Int) (M : zHp), f_Md_sift_L82 κ a0 a2 n v3 M = some (r, M') → zZ D n0 p l e { frames := 1, cells := 0, slots := 0, locals := 24 } s m args below meth c 4 0 0 (MQ below (zQc D n0 (some (zi r)) M') args s 0 0 (fun q => n0 ≤ q)) 82 [some (zv n0 a0), some (zi a1), some (zi a2), some (zi v3)] [] M := by
  intro n
  induction n with
  | zero =>
    intro v3 M hf
    exact absurd hf (by unfold f_Md_sift_L82; simp)
  | succ n ih =>
    intro v3 M hf
    unfold f_Md_sift_L82 at hf
    refine z_iload_n C d_Md_sift_82 rfl (z_pc (pc' := 83) rfl ?_)
    refine z_aload_n C d_Md_sift_83 rfl (z_pc (pc' := 84) rfl ?_)
    obtain ⟨x34, h35, hf⟩ := zbind hf
    refine z_geti C fl_Md_75 h35 d_Md_sift_84 (z_pc (pc' := 87) rfl ?_)
    refine z_icmp_ge (tgt := 147) C d_Md_sift_87 (by decide) (fun c36 => ?_) (fun c36 => z_pc (pc' := 90) rfl ?_)
    · have hf := zpos c36 hf
      exact z_sub2 (hκ _ hf) (And.intro rfl (And.intro rfl (And.intro rfl trivial)))
    · have hf := zneg c36 hf
      refine z_aload_n C d_Md_sift_90 rfl (z_pc (pc' := 91) rfl ?_)
      obtain ⟨x37, h38, hf⟩ := zbind hf
      refine z_getr C fl_Md_38 rfl h38 d_Md_sift_91 (z_pc (pc' := 94) rfl ?_)
      refine z_iload_n C d_Md_sift_94 rfl (z_pc (pc' := 95) rfl ?_)
      obtain ⟨x39, h40, hf⟩ := zbind hf
      refine z_bald C h40 d_Md_sift_95 (z_pc (pc' := 96) rfl ?_)
      refine z_if_eq (tgt := 141) C d_Md_sift_96 (by decide) (fun c41 => ?_) (fun c41 => z_pc (pc' := 99) rfl ?_)
      · have hf := zpos c41 hf
        refine z_iinc C d_Md_sift_141 rfl (by decide) (z_pl (pc' := 144) (L' := [some (zv n0 a0), some (zi a1), some (zi a2), some (zi (zadd v3 1))]) rfl rfl ?_)
        refine z_goto (tgt := 82) C d_Md_sift_144 (by decide) ?_
        exact z_sub2 (ih _ _ hf) (And.intro rfl (And.intro rfl (And.intro rfl (And.intro rfl trivial))))
      · have hf := zneg c41 hf
        refine z_aload_n C d_Md_sift_99 rfl (z_pc (pc' := 100) rfl ?_)
        obtain ⟨x42, h43, hf⟩ := zbind hf
        refine z_getr C fl_Md_13 rfl h43 d_Md_sift_100 (z_pc (pc' := 103) rfl ?_)
        refine z_iload_n C d_Md_sift_103 rfl (z_pc (pc' := 104) rfl ?_)
        obtain ⟨x44, h45, hf⟩ := zbind hf
        refine z_iald C h45 d_Md_sift_104 (z_pc (pc' := 105) rfl ?_)
        refine z_iload_n C d_Md_sift_105 rfl (z_pc (pc' := 106) rfl ?_)
        refine z_icmp_ne (tgt := 141) C d_Md_sift_106 (by decide) (fun c46 => ?_) (fun c46 => z_pc (pc' := 109) rfl ?_)
        · have hf := zneg c46 hf
          refine z_iinc C d_Md_sift_141 rfl (by decide) (z_pl (pc' := 144) (L' := [some (zv n0 a0), some (zi a1), some (zi a2), some (zi (zadd v3 1))]) rfl rfl ?_)
          refine z_goto (tgt := 82) C d_Md_sift_144 (by decide) ?_
          exact z_sub2 (ih _ _ hf) (And.intro rfl (And.intro rfl (And.intro rfl (And.intro rfl trivial))))
        · have hf := zpos c46 hf
          refine z_aload_n C d_Md_sift_109 rfl (z_pc (pc' := 110) rfl ?_)
          obtain ⟨x47, h48, hf⟩ := zbind hf
          refine z_getr C fl_Md_41 rfl h48 d_Md_sift_110 (z_pc (pc' := 113) rfl ?_)
          refine z_iload_n C d_Md_sift_113 rfl (z_pc (pc' := 114) rfl ?_)
          obtain ⟨x49, h50, hf⟩ := zbind hf
          refine z_bald C h50 d_Md_sift_114 (z_pc (pc' := 115) rfl ?_)
          refine z_if_ne (tgt := 141) C d_Md_sift_115 (by decide) (fun c51 => ?_) (fun c51 => z_pc (pc' := 118) rfl ?_)
          · have hf := zneg c51 hf
            refine z_iinc C d_Md_sift_141 rfl (by decide) (z_pl (pc' := 144) (L' := [some (zv n0 a0), some (zi a1), some (zi a2), some (zi (zadd v3 1))]) rfl rfl ?_)
            refine z_goto (tgt := 82) C d_Md_sift_144 (by decide) ?_
            exact z_sub2 (ih _ _ hf) (And.intro rfl (And.intro rfl (And.intro rfl (And.intro rfl trivial))))
          · have hf := zpos c51 hf
            refine z_aload_n C d_Md_sift_118 rfl (z_pc (pc' := 119) rfl ?_)
            refine z_iload_n C d_Md_sift_119 rfl (z_pc (pc' := 120) rfl ?_)
            obtain ⟨x54, M53, h52, hf⟩ := zb2_inv hf
            refine z_callV C [zi v3] [] kv_Md_92 (c_Md_gone D n0 l h52) (e_Md_gone h52) ⟨(Nat.le_of_ble_eq_true rfl), (Nat.le_of_ble_eq_true rfl)⟩ (Nat.le_of_ble_eq_true rfl) ⟨(Nat.le_of_ble_eq_true rfl), (Nat.le_of_ble_eq_true rfl)⟩ d_Md_sift_120 (z_pc (pc' := 123) rfl ?_)
            refine z_if_eq (tgt := 141) C d_Md_sift_123 (by decide) (fun c55 => ?_) (fun c55 => z_pc (pc' := 126) rfl ?_)
            · have hf := zpos c55 hf
              refine z_iinc C d_Md_sift_141 rfl (by decide) (z_pl (pc' := 144) (L' := [some (zv n0 a0), some (zi a1), some (zi a2), some (zi (zadd v3 1))]) rfl rfl ?_)
              refine z_goto (tgt := 82) C d_Md_sift_144 (by decide) ?_
              exact z_sub2 (ih _ _ hf) (And.intro rfl (And.intro rfl (And.intro rfl (And.intro rfl trivial))))
            · have hf := zneg c55 hf
              refine z_aload_n C d_Md_sift_126 rfl (z_pc (pc' := 127) rfl ?_)
              refine z_iload_n C d_Md_sift_127 rfl (z_pc (pc' := 128) rfl ?_)
              obtain ⟨x58, M57, h56, hf⟩ := zb2_inv hf
              refine z_callV C [zi v3] [] kv_Md_96 (c_Md_isLowest D n0 l h56) (e_Md_isLowest h56) ⟨(Nat.le_of_ble_eq_true rfl), (Nat.le_of_ble_eq_true rfl)⟩ (Nat.le_of_ble_eq_true rfl) ⟨(Nat.le_of_ble_eq_true rfl), (Nat.le_of_ble_eq_true rfl)⟩ d_Md_sift_128 (z_pc (pc' := 131) rfl ?_)
              refine z_if_eq (tgt := 141) C d_Md_sift_131 (by decide) (fun c59 => ?_) (fun c59 => z_pc (pc' := 134) rfl ?_)
              · have hf := zpos c59 hf
                refine z_iinc C d_Md_sift_141 rfl (by decide) (z_pl (pc' := 144) (L' := [some (zv n0 a0), some (zi a1), some (zi a2), some (zi (zadd v3 1))]) rfl rfl ?_)
                refine z_goto (tgt := 82) C d_Md_sift_144 (by decide) ?_
                exact z_sub2 (ih _ _ hf) (And.intro rfl (And.intro rfl (And.intro rfl (And.intro rfl trivial))))
              · have hf := zneg c59 hf
                refine z_aload_n C d_Md_sift_134 rfl (z_pc (pc' := 135) rfl ?_)
                obtain ⟨x60, h61, hf⟩ := zbind hf
                refine z_getr C fl_Md_41 rfl h61 d_Md_sift_135 (z_pc (pc' := 138) rfl ?_)
                refine z_iload_n C d_Md_sift_138 rfl (z_pc (pc' := 139) rfl ?_)
                refine z_iconst C d_Md_sift_139 (z_pc (pc' := 140) rfl ?_)
                obtain ⟨M62, h63, hf⟩ := zbind hf
                refine z_bast C h63 d_Md_sift_140 (z_pc (pc' := 141) rfl ?_)
                refine z_iinc C d_Md_sift_141 rfl (by decide) (z_pl (pc' := 144) (L' := [some (zv n0 a0), some (zi a1), some (zi a2), some (zi (zadd v3 1))]) rfl rfl ?_)
                refine z_goto (tgt := 82) C d_Md_sift_144 (by decide) ?_
                exact z_sub2 (ih _ _ hf) (And.intro rfl (And.intro rfl (And.intro rfl (And.intro rfl trivial))))
set_option maxHeartbeats 4000000 in
set_option maxRecDepth 100000 in
theorem w_Md_sift_L67 {D : va_G} {n0 : Nat} {l : Launch} {p : Program} {e : Env} {s : State} {m : MethodId} {args : Array Value} {below : List Frame} {meth : Method} {c : Code} {a0 : Nat} {a1 : Int} {r : Int} {M' : zHp} {κ : zHp → Option (Int × zHp)} (C : zC D n0 p s m meth c b_Md_sift 4 "LayerVaultModel") (hr : meth.sig.returnType = (some .int))
    (hκ : ∀ (M1 : zHp), κ M1 = some (r, M') → zZ D n0 p l e { frames := 1, cells := 0, slots := 0, locals := 24 } s m args below meth c 4 0 0 (MQ below (zQc D n0 (some (zi r)) M') args s 0 0 (fun q => n0 ≤ q)) 153 [some (zv n0 a0), some (zi a1), none, none] [] M1) :
    ∀ (n : Nat) (v2 : Int) (M : zHp), f_Md_sift_L67 κ a0 a1 n v2 M = some (r, M') → zZ D n0 p l e { frames := 1, cells := 0, slots := 0, locals := 24 } s m args below meth c 4 0 0 (MQ below (zQc D n0 (some (zi r)) M') args s 0 0 (fun q => n0 ≤ q)) 67 [some (zv n0 a0), some (zi a1), some (zi v2), none] [] M := by
  intro n
  induction n with
  | zero =>
    intro v2 M hf
    exact absurd hf (by unfold f_Md_sift_L67; simp)
  | succ n ih =>
    intro v2 M hf
    unfold f_Md_sift_L67 at hf
    refine z_iload_n C d_Md_sift_67 rfl (z_pc (pc' := 68) rfl ?_)
    refine z_aload_n C d_Md_sift_68 rfl (z_pc (pc' := 69) rfl ?_)
    obtain ⟨x30, h31, hf⟩ := zbind hf
    refine z_geti C fl_Md_89 h31 d_Md_sift_69 (z_pc (pc' := 72) rfl ?_)
    refine z_icmp_gt (tgt := 153) C d_Md_sift_72 (by decide) (fun c32 => ?_) (fun c32 => z_pc (pc' := 75) rfl ?_)
    · have hf := zpos c32 hf
      exact z_sub2 (hκ _ hf) (And.intro rfl (And.intro rfl trivial))
    · have hf := zneg c32 hf
      refine z_iload_n C d_Md_sift_75 rfl (z_pc (pc' := 76) rfl ?_)
      refine z_iconst C d_Md_sift_76 (z_pc (pc' := 77) rfl ?_)
      refine z_icmp_ne (tgt := 153) C d_Md_sift_77 (by decide) (fun c33 => ?_) (fun c33 => z_pc (pc' := 80) rfl ?_)
      · have hf := zneg c33 hf
        exact z_sub2 (hκ _ hf) (And.intro rfl (And.intro rfl trivial))
      · have hf := zpos c33 hf
        refine z_iconst C d_Md_sift_80 (z_pc (pc' := 81) rfl ?_)
        refine z_istore_n C d_Md_sift_81 (by decide) (z_pl (pc' := 82) (L' := [some (zv n0 a0), some (zi a1), some (zi v2), some (zi 0)]) rfl rfl ?_)
        refine z_sub2 (w_Md_sift_L82 C hr ?_ _ _ _ hf) (And.intro rfl (And.intro rfl (And.intro rfl (And.intro rfl trivial))))
        intro M64 hf
        refine z_iinc C d_Md_sift_147 rfl (by decide) (z_pl (pc' := 150) (L' := [some (zv n0 a0), some (zi a1), some (zi (zadd v2 1)), none]) rfl rfl ?_)
        refine z_goto (tgt := 67) C d_Md_sift_150 (by decide) ?_
        exact z_sub2 (ih _ _ hf) (And.intro rfl (And.intro rfl (And.intro rfl trivial)))
set_option maxHeartbeats 4000000 in
set_option maxRecDepth 100000 in
theorem w_Md_sift_L157 {D : va_G} {n0 : Nat} {l : Launch} {p : Program} {e : Env} {s : State} {m : MethodId} {args : Array Value} {below : List Frame} {meth : Method} {c : Code} {a0 : Nat} {a1 : Int} {r : Int} {M' : zHp} {κ : Int → zHp → Option (Int × zHp)} (C : zC D n0 p s m meth c b_Md_sift 4 "LayerVaultModel") (hr : meth.sig.returnType = (some .int))
    (hκ : ∀ (u2 : Int) (M1 : zHp), κ u2 M1 = some (r, M') → zZ D n0 p l e { frames := 1, cells := 0, slots := 0, locals := 24 } s m args below meth c 4 0 0 (MQ below (zQc D n0 (some (zi r)) M') args s 0 0 (fun q => n0 ≤ q)) 221 [none, none, some (zi u2), none] [] M1) :
    ∀ (n : Nat) (v2 : Int) (v3 : Int) (M : zHp), f_Md_sift_L157 κ a0 a1 n v2 v3 M = some (r, M') → zZ D n0 p l e { frames := 1, cells := 0, slots := 0, locals := 24 } s m args below meth c 4 0 0 (MQ below (zQc D n0 (some (zi r)) M') args s 0 0 (fun q => n0 ≤ q)) 157 [some (zv n0 a0), some (zi a1), some (zi v2), some (zi v3)] [] M := by
  intro n
  induction n with
  | zero =>
    intro v2 v3 M hf
    exact absurd hf (by unfold f_Md_sift_L157; simp)
  | succ n ih =>
    intro v2 v3 M hf
    unfold f_Md_sift_L157 at hf
    refine z_iload_n C d_Md_sift_157 rfl (z_pc (pc' := 158) rfl ?_)
    refine z_aload_n C d_Md_sift_158 rfl (z_pc (pc' := 159) rfl ?_)
    obtain ⟨x66, h67, hf⟩ := zbind hf
    refine z_geti C fl_Md_75 h67 d_Md_sift_159 (z_pc (pc' := 162) rfl ?_)
    refine z_icmp_ge (tgt := 221) C d_Md_sift_162 (by decide) (fun c68 => ?_) (fun c68 => z_pc (pc' := 165) rfl ?_)
    · have hf := zpos c68 hf
      exact z_sub2 (hκ _ _ hf) (And.intro rfl trivial)
    · have hf := zneg c68 hf
      refine z_aload_n C d_Md_sift_165 rfl (z_pc (pc' := 166) rfl ?_)
      obtain ⟨x69, h70, hf⟩ := zbind hf
      refine z_getr C fl_Md_38 rfl h70 d_Md_sift_166 (z_pc (pc' := 169) rfl ?_)
      refine z_iload_n C d_Md_sift_169 rfl (z_pc (pc' := 170) rfl ?_)
      obtain ⟨x71, h72, hf⟩ := zbind hf
      refine z_bald C h72 d_Md_sift_170 (z_pc (pc' := 171) rfl ?_)
      refine z_if_ne (tgt := 177) C d_Md_sift_171 (by decide) (fun c73 => ?_) (fun c73 => z_pc (pc' := 174) rfl ?_)
      · have hf := zneg c73 hf
        refine z_aload_n C d_Md_sift_177 rfl (z_pc (pc' := 178) rfl ?_)
        obtain ⟨x74, h75, hf⟩ := zbind hf
        refine z_getr C fl_Md_26 rfl h75 d_Md_sift_178 (z_pc (pc' := 181) rfl ?_)
        refine z_iload_n C d_Md_sift_181 rfl (z_pc (pc' := 182) rfl ?_)
        refine z_aload_n C d_Md_sift_182 rfl (z_pc (pc' := 183) rfl ?_)
        obtain ⟨x76, h77, hf⟩ := zbind hf
        refine z_getr C fl_Md_41 rfl h77 d_Md_sift_183 (z_pc (pc' := 186) rfl ?_)
        refine z_iload_n C d_Md_sift_186 rfl (z_pc (pc' := 187) rfl ?_)
        obtain ⟨x78, h79, hf⟩ := zbind hf
        refine z_bald C h79 d_Md_sift_187 (z_pc (pc' := 188) rfl ?_)
        refine z_if_eq (tgt := 196) C d_Md_sift_188 (by decide) (fun c80 => ?_) (fun c80 => z_pc (pc' := 191) rfl ?_)
        · have hf := zpos c80 hf
          refine z_iload_n C d_Md_sift_196 rfl (z_pc (pc' := 197) rfl ?_)
          obtain ⟨M81, h82, hf⟩ := zbind hf
          refine z_iast C h82 d_Md_sift_197 (z_pc (pc' := 198) rfl ?_)
          refine z_aload_n C d_Md_sift_198 rfl (z_pc (pc' := 199) rfl ?_)
          obtain ⟨x83, h84, hf⟩ := zbind hf
          refine z_getr C fl_Md_41 rfl h84 d_Md_sift_199 (z_pc (pc' := 202) rfl ?_)
          refine z_iload_n C d_Md_sift_202 rfl (z_pc (pc' := 203) rfl ?_)
          obtain ⟨x85, h86, hf⟩ := zbind hf
          refine z_bald C h86 d_Md_sift_203 (z_pc (pc' := 204) rfl ?_)
          refine z_if_eq (tgt := 213) C d_Md_sift_204 (by decide) (fun c87 => ?_) (fun c87 => z_pc (pc' := 207) rfl ?_)
          · have hf := zpos c87 hf
            refine z_iload_n C d_Md_sift_213 rfl (z_pc (pc' := 214) rfl ?_)
            refine z_istore_n C d_Md_sift_214 (by decide) (z_pl (pc' := 215) (L' := [some (zv n0 a0), some (zi a1), some (zi v2), some (zi v3)]) rfl rfl ?_)
            refine z_iinc C d_Md_sift_215 rfl (by decide) (z_pl (pc' := 218) (L' := [some (zv n0 a0), some (zi a1), some (zi v2), some (zi (zadd v3 1))]) rfl rfl ?_)
            refine z_goto (tgt := 157) C d_Md_sift_218 (by decide) ?_
            exact z_sub2 (ih _ _ _ hf) (And.intro rfl (And.intro rfl (And.intro rfl (And.intro rfl trivial))))
          · have hf := zneg c87 hf
            refine z_iload_n C d_Md_sift_207 rfl (z_pc (pc' := 208) rfl ?_)
            refine z_iconst C d_Md_sift_208 (z_pc (pc' := 209) rfl ?_)
            refine z_iadd C d_Md_sift_209 (z_pc (pc' := 210) rfl ?_)
            refine z_goto (tgt := 214) C d_Md_sift_210 (by decide) ?_
            refine z_istore_n C d_Md_sift_214 (by decide) (z_pl (pc' := 215) (L' := [some (zv n0 a0), some (zi a1), some (zi (zadd v2 1)), some (zi v3)]) rfl rfl ?_)
            refine z_iinc C d_Md_sift_215 rfl (by decide) (z_pl (pc' := 218) (L' := [some (zv n0 a0), some (zi a1), some (zi (zadd v2 1)), some (zi (zadd v3 1))]) rfl rfl ?_)
            refine z_goto (tgt := 157) C d_Md_sift_218 (by decide) ?_
            exact z_sub2 (ih _ _ _ hf) (And.intro rfl (And.intro rfl (And.intro rfl (And.intro rfl trivial))))
        · have hf := zneg c80 hf
          refine z_bipush C d_Md_sift_191 (by decide) (z_pc (pc' := 193) rfl ?_)
          refine z_goto (tgt := 197) C d_Md_sift_193 (by decide) ?_
          obtain ⟨M88, h89, hf⟩ := zbind hf
          refine z_iast C h89 d_Md_sift_197 (z_pc (pc' := 198) rfl ?_)
          refine z_aload_n C d_Md_sift_198 rfl (z_pc (pc' := 199) rfl ?_)
          obtain ⟨x90, h91, hf⟩ := zbind hf
          refine z_getr C fl_Md_41 rfl h91 d_Md_sift_199 (z_pc (pc' := 202) rfl ?_)
          refine z_iload_n C d_Md_sift_202 rfl (z_pc (pc' := 203) rfl ?_)
          obtain ⟨x92, h93, hf⟩ := zbind hf
          refine z_bald C h93 d_Md_sift_203 (z_pc (pc' := 204) rfl ?_)
          refine z_if_eq (tgt := 213) C d_Md_sift_204 (by decide) (fun c94 => ?_) (fun c94 => z_pc (pc' := 207) rfl ?_)
          · have hf := zpos c94 hf
            refine z_iload_n C d_Md_sift_213 rfl (z_pc (pc' := 214) rfl ?_)
            refine z_istore_n C d_Md_sift_214 (by decide) (z_pl (pc' := 215) (L' := [some (zv n0 a0), some (zi a1), some (zi v2), some (zi v3)]) rfl rfl ?_)
            refine z_iinc C d_Md_sift_215 rfl (by decide) (z_pl (pc' := 218) (L' := [some (zv n0 a0), some (zi a1), some (zi v2), some (zi (zadd v3 1))]) rfl rfl ?_)
            refine z_goto (tgt := 157) C d_Md_sift_218 (by decide) ?_
            exact z_sub2 (ih _ _ _ hf) (And.intro rfl (And.intro rfl (And.intro rfl (And.intro rfl trivial))))
          · have hf := zneg c94 hf
            refine z_iload_n C d_Md_sift_207 rfl (z_pc (pc' := 208) rfl ?_)
            refine z_iconst C d_Md_sift_208 (z_pc (pc' := 209) rfl ?_)
            refine z_iadd C d_Md_sift_209 (z_pc (pc' := 210) rfl ?_)
            refine z_goto (tgt := 214) C d_Md_sift_210 (by decide) ?_
            refine z_istore_n C d_Md_sift_214 (by decide) (z_pl (pc' := 215) (L' := [some (zv n0 a0), some (zi a1), some (zi (zadd v2 1)), some (zi v3)]) rfl rfl ?_)
            refine z_iinc C d_Md_sift_215 rfl (by decide) (z_pl (pc' := 218) (L' := [some (zv n0 a0), some (zi a1), some (zi (zadd v2 1)), some (zi (zadd v3 1))]) rfl rfl ?_)
            refine z_goto (tgt := 157) C d_Md_sift_218 (by decide) ?_
            exact z_sub2 (ih _ _ _ hf) (And.intro rfl (And.intro rfl (And.intro rfl (And.intro rfl trivial))))
      · have hf := zpos c73 hf
        refine z_goto (tgt := 215) C d_Md_sift_174 (by decide) ?_
        refine z_iinc C d_Md_sift_215 rfl (by decide) (z_pl (pc' := 218) (L' := [some (zv n0 a0), some (zi a1), some (zi v2), some (zi (zadd v3 1))]) rfl rfl ?_)
        refine z_goto (tgt := 157) C d_Md_sift_218 (by decide) ?_
        exact z_sub2 (ih _ _ _ hf) (And.intro rfl (And.intro rfl (And.intro rfl (And.intro rfl trivial))))
theorem e_Md_sift {a0 : Nat} {a1 : Int} {M : zHp} {q : Int × zHp} (hf : f_Md_sift a0 a1 M = some q) : zk M a0 = 8 := by
  unfold f_Md_sift at hf
  exact (zif hf).1
set_option maxHeartbeats 4000000 in
set_option maxRecDepth 100000 in
theorem c_Md_sift (D : va_G) (n0 : Nat) (l : Launch) {a0 : Nat} {a1 : Int} {M : zHp} {r : Int} {M' : zHp} (hf : f_Md_sift a0 a1 M = some (r, M')) : zM D n0 l y_Md_sift b_Md_sift 4 (some .int) 1 24 0 0 [zv n0 a0, zi a1] M (some (zi r)) M' := by
  refine zM.ofZ (by decide) (zcr (zci zcn)) (Nat.le_of_ble_eq_true rfl) ?_
  intro p e s m below meth c C hr hnm
  have C : zC D n0 p s m meth c b_Md_sift 4 "LayerVaultModel" := C
  refine z_eqL (L' := [some (zv n0 a0), some (zi a1), none, none]) rfl ?_
  unfold f_Md_sift at hf
  have hf := (zif hf).2
  refine z_iconst C d_Md_sift_0 (z_pc (pc' := 1) rfl ?_)
  refine z_istore_n C d_Md_sift_1 (by decide) (z_pl (pc' := 2) (L' := [some (zv n0 a0), some (zi a1), some (zi 0), none]) rfl rfl ?_)
  refine z_sub2 (w_Md_sift_L2 C hr ?_ _ _ _ hf) (And.intro rfl (And.intro rfl (And.intro rfl trivial)))
  intro M29 hf
  refine z_iconst C d_Md_sift_65 (z_pc (pc' := 66) rfl ?_)
  refine z_istore_n C d_Md_sift_66 (by decide) (z_pl (pc' := 67) (L' := [some (zv n0 a0), some (zi a1), some (zi 1), none]) rfl rfl ?_)
  refine z_sub2 (w_Md_sift_L67 C hr ?_ _ _ _ hf) (And.intro rfl (And.intro rfl (And.intro rfl trivial)))
  intro M65 hf
  refine z_iconst C d_Md_sift_153 (z_pc (pc' := 154) rfl ?_)
  refine z_istore_n C d_Md_sift_154 (by decide) (z_pl (pc' := 155) (L' := [some (zv n0 a0), some (zi a1), some (zi 0), none]) rfl rfl ?_)
  refine z_iconst C d_Md_sift_155 (z_pc (pc' := 156) rfl ?_)
  refine z_istore_n C d_Md_sift_156 (by decide) (z_pl (pc' := 157) (L' := [some (zv n0 a0), some (zi a1), some (zi 0), some (zi 0)]) rfl rfl ?_)
  refine z_sub2 (w_Md_sift_L157 C hr ?_ _ _ _ _ hf) (And.intro rfl (And.intro rfl (And.intro rfl (And.intro rfl trivial))))
  intro v95 M96 hf
  refine z_iload_n C d_Md_sift_221 rfl (z_pc (pc' := 222) rfl ?_)
  exact z_iret C hr (Nat.le_of_ble_eq_true rfl) (Nat.le_of_ble_eq_true rfl) d_Md_sift_222 hf
