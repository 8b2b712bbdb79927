-- walks (printed by main.py)
set_option maxHeartbeats 4000000 in
set_option maxRecDepth 100000 in
theorem w_Md_crash_L40 {D : va_G} {n0 : Nat} {l : Launch} {p : Program} {e : Env} {s : State} {m : MethodId} {args : Array Value} {below : List Frame} {meth : Method} {c : Code} {a0 : Nat} {a2 : Int} {a3 : Int} {r : Int} {M' : zHp} {κ : zHp → Option (Int × zHp)} (C : zC D n0 p s m meth c b_Md_crash 5 "LayerVaultModel") (hr : meth.sig.returnType = (some .int))
    (hκ : ∀ (M1 : zHp), κ M1 = some (r, M') → zZ D n0 p l e { frames := 0, cells := 0, slots := 0, locals := 0 } s m args below meth c 5 0 0 (MQ below (zQc D n0 (some (zi r)) M') args s 0 0 (fun q => n0 ≤ q)) 120 [some (zv n0 a0), none, none, some (zi a3), none] [] M1) :
    ∀ (n : Nat) (v4 : Int) (M : zHp), f_Md_crash_L40 κ a0 a2 n v4 M = some (r, M') → zZ D n0 p l e { frames := 0, cells := 0, slots := 0, locals := 0 } s m args below meth c 5 0 0 (MQ below (zQc D n0 (some (zi r)) M') args s 0 0 (fun q => n0 ≤ q)) 40 [some (zv n0 a0), none, some (zi a2), some (zi a3), some (zi v4)] [] M := by
  intro n
  induction n with
  | zero =>
    intro v4 M hf
    exact absurd hf (by unfold f_Md_crash_L40; simp)
  | succ n ih =>
    intro v4 M hf
    unfold f_Md_crash_L40 at hf
    refine z_iload C d_Md_crash_40 rfl (z_pc (pc' := 42) rfl ?_)
    refine z_iload_n C d_Md_crash_42 rfl (z_pc (pc' := 43) rfl ?_)
    refine z_icmp_lt (tgt := 120) C d_Md_crash_43 (by decide) (fun c9 => ?_) (fun c9 => z_pc (pc' := 46) rfl ?_)
    · have hf := zpos c9 hf
      exact z_sub2 (hκ _ hf) (And.intro rfl (And.intro rfl trivial))
    · have hf := zneg c9 hf
      refine z_aload_n C d_Md_crash_46 rfl (z_pc (pc' := 47) rfl ?_)
      obtain ⟨x10, h11, hf⟩ := zbind hf
      refine z_getr C fl_Md_68 rfl h11 d_Md_crash_47 (z_pc (pc' := 50) rfl ?_)
      refine z_iload C d_Md_crash_50 rfl (z_pc (pc' := 52) rfl ?_)
      obtain ⟨x12, h13, hf⟩ := zbind hf
      refine z_bald C h13 d_Md_crash_52 (z_pc (pc' := 53) rfl ?_)
      refine z_if_eq (tgt := 69) C d_Md_crash_53 (by decide) (fun c14 => ?_) (fun c14 => z_pc (pc' := 56) rfl ?_)
      · have hf := zpos c14 hf
        refine z_aload_n C d_Md_crash_69 rfl (z_pc (pc' := 70) rfl ?_)
        obtain ⟨x15, h16, hf⟩ := zbind hf
        refine z_getr C fl_Md_59 rfl h16 d_Md_crash_70 (z_pc (pc' := 73) rfl ?_)
        refine z_aload_n C d_Md_crash_73 rfl (z_pc (pc' := 74) rfl ?_)
        obtain ⟨x17, h18, hf⟩ := zbind hf
        refine z_geti C fl_Md_128 h18 d_Md_crash_74 (z_pc (pc' := 77) rfl ?_)
        refine z_bipush C d_Md_crash_77 (by decide) (z_pc (pc' := 79) rfl ?_)
        refine z_irem C (by decide) d_Md_crash_79 (z_pc (pc' := 80) rfl ?_)
        refine z_aload_n C d_Md_crash_80 rfl (z_pc (pc' := 81) rfl ?_)
        obtain ⟨x19, h20, hf⟩ := zbind hf
        refine z_getr C fl_Md_59 rfl h20 d_Md_crash_81 (z_pc (pc' := 84) rfl ?_)
        refine z_aload_n C d_Md_crash_84 rfl (z_pc (pc' := 85) rfl ?_)
        obtain ⟨x21, h22, hf⟩ := zbind hf
        refine z_geti C fl_Md_128 h22 d_Md_crash_85 (z_pc (pc' := 88) rfl ?_)
        refine z_bipush C d_Md_crash_88 (by decide) (z_pc (pc' := 90) rfl ?_)
        refine z_irem C (by decide) d_Md_crash_90 (z_pc (pc' := 91) rfl ?_)
        obtain ⟨x23, h24, hf⟩ := zbind hf
        refine z_iald C h24 d_Md_crash_91 (z_pc (pc' := 92) rfl ?_)
        refine z_aload_n C d_Md_crash_92 rfl (z_pc (pc' := 93) rfl ?_)
        obtain ⟨x25, h26, hf⟩ := zbind hf
        refine z_getr C fl_Md_65 rfl h26 d_Md_crash_93 (z_pc (pc' := 96) rfl ?_)
        refine z_iload C d_Md_crash_96 rfl (z_pc (pc' := 98) rfl ?_)
        obtain ⟨x27, h28, hf⟩ := zbind hf
        refine z_iald C h28 d_Md_crash_98 (z_pc (pc' := 99) rfl ?_)
        refine z_isub C d_Md_crash_99 (z_pc (pc' := 100) rfl ?_)
        obtain ⟨M29, h30, hf⟩ := zbind hf
        refine z_iast C h30 d_Md_crash_100 (z_pc (pc' := 101) rfl ?_)
        refine z_aload_n C d_Md_crash_101 rfl (z_pc (pc' := 102) rfl ?_)
        refine z_aload_n C d_Md_crash_102 rfl (z_pc (pc' := 103) rfl ?_)
        obtain ⟨x31, h32, hf⟩ := zbind hf
        refine z_getr C fl_Md_62 rfl h32 d_Md_crash_103 (z_pc (pc' := 106) rfl ?_)
        refine z_iload C d_Md_crash_106 rfl (z_pc (pc' := 108) rfl ?_)
        obtain ⟨x33, h34, hf⟩ := zbind hf
        refine z_iald C h34 d_Md_crash_108 (z_pc (pc' := 109) rfl ?_)
        refine z_iconst C d_Md_crash_109 (z_pc (pc' := 110) rfl ?_)
        refine z_isub C d_Md_crash_110 (z_pc (pc' := 111) rfl ?_)
        obtain ⟨M35, h36, hf⟩ := zbind hf
        refine z_puti C fp_Md_89 (by decide) rfl h36 d_Md_crash_111 (z_pc (pc' := 114) rfl ?_)
        refine z_iinc C d_Md_crash_114 rfl (by decide) (z_pl (pc' := 117) (L' := [some (zv n0 a0), none, some (zi a2), some (zi a3), some (zi (zadd v4 (-1)))]) rfl rfl ?_)
        refine z_goto (tgt := 40) C d_Md_crash_117 (by decide) ?_
        exact z_sub2 (ih _ _ hf) (And.intro rfl (And.intro rfl (And.intro rfl (And.intro rfl trivial))))
      · have hf := zneg c14 hf
        refine z_aload_n C d_Md_crash_56 rfl (z_pc (pc' := 57) rfl ?_)
        refine z_dupr C d_Md_crash_57 (z_pc (pc' := 58) rfl ?_)
        obtain ⟨x37, h38, hf⟩ := zbind hf
        refine z_geti C fl_Md_128 h38 d_Md_crash_58 (z_pc (pc' := 61) rfl ?_)
        refine z_iconst C d_Md_crash_61 (z_pc (pc' := 62) rfl ?_)
        refine z_isub C d_Md_crash_62 (z_pc (pc' := 63) rfl ?_)
        obtain ⟨M39, h40, hf⟩ := zbind hf
        refine z_puti C fp_Md_128 (by decide) rfl h40 d_Md_crash_63 (z_pc (pc' := 66) rfl ?_)
        refine z_goto (tgt := 101) C d_Md_crash_66 (by decide) ?_
        refine z_aload_n C d_Md_crash_101 rfl (z_pc (pc' := 102) rfl ?_)
        refine z_aload_n C d_Md_crash_102 rfl (z_pc (pc' := 103) rfl ?_)
        obtain ⟨x41, h42, hf⟩ := zbind hf
        refine z_getr C fl_Md_62 rfl h42 d_Md_crash_103 (z_pc (pc' := 106) rfl ?_)
        refine z_iload C d_Md_crash_106 rfl (z_pc (pc' := 108) rfl ?_)
        obtain ⟨x43, h44, hf⟩ := zbind hf
        refine z_iald C h44 d_Md_crash_108 (z_pc (pc' := 109) rfl ?_)
        refine z_iconst C d_Md_crash_109 (z_pc (pc' := 110) rfl ?_)
        refine z_isub C d_Md_crash_110 (z_pc (pc' := 111) rfl ?_)
        obtain ⟨M45, h46, hf⟩ := zbind hf
        refine z_puti C fp_Md_89 (by decide) rfl h46 d_Md_crash_111 (z_pc (pc' := 114) rfl ?_)
        refine z_iinc C d_Md_crash_114 rfl (by decide) (z_pl (pc' := 117) (L' := [some (zv n0 a0), none, some (zi a2), some (zi a3), some (zi (zadd v4 (-1)))]) rfl rfl ?_)
        refine z_goto (tgt := 40) C d_Md_crash_117 (by decide) ?_
        exact z_sub2 (ih _ _ hf) (And.intro rfl (And.intro rfl (And.intro rfl (And.intro rfl trivial))))
set_option maxHeartbeats 4000000 in
set_option maxRecDepth 100000 in
theorem w_Md_crash_L123 {D : va_G} {n0 : Nat} {l : Launch} {p : Program} {e : Env} {s : State} {m : MethodId} {args : Array Value} {below : List Frame} {meth : Method} {c : Code} {a0 : Nat} {a3 : Int} {r : Int} {M' : zHp} {κ : zHp → Option (Int × zHp)} (C : zC D n0 p s m meth c b_Md_crash 5 "LayerVaultModel") (hr : meth.sig.returnType = (some .int))
    (hκ : ∀ (M1 : zHp), κ M1 = some (r, M') → zZ D n0 p l e { frames := 0, cells := 0, slots := 0, locals := 0 } s m args below meth c 5 0 0 (MQ below (zQc D n0 (some (zi r)) M') args s 0 0 (fun q => n0 ≤ q)) 172 [some (zv n0 a0), none, none, some (zi a3), none] [] M1) :
    ∀ (n : Nat) (v4 : Int) (M : zHp), f_Md_crash_L123 κ a0 n v4 M = some (r, M') → zZ D n0 p l e { frames := 0, cells := 0, slots := 0, locals := 0 } s m args below meth c 5 0 0 (MQ below (zQc D n0 (some (zi r)) M') args s 0 0 (fun q => n0 ≤ q)) 123 [some (zv n0 a0), none, none, some (zi a3), some (zi v4)] [] M := by
  intro n
  induction n with
  | zero =>
    intro v4 M hf
    exact absurd hf (by unfold f_Md_crash_L123; simp)
  | succ n ih =>
    intro v4 M hf
    unfold f_Md_crash_L123 at hf
    refine z_iload C d_Md_crash_123 rfl (z_pc (pc' := 125) rfl ?_)
    refine z_aload_n C d_Md_crash_125 rfl (z_pc (pc' := 126) rfl ?_)
    obtain ⟨x48, h49, hf⟩ := zbind hf
    refine z_geti C fl_Md_75 h49 d_Md_crash_126 (z_pc (pc' := 129) rfl ?_)
    refine z_icmp_ge (tgt := 172) C d_Md_crash_129 (by decide) (fun c50 => ?_) (fun c50 => z_pc (pc' := 132) rfl ?_)
    · have hf := zpos c50 hf
      exact z_sub2 (hκ _ hf) (And.intro rfl (And.intro rfl trivial))
    · have hf := zneg c50 hf
      refine z_aload_n C d_Md_crash_132 rfl (z_pc (pc' := 133) rfl ?_)
      obtain ⟨x51, h52, hf⟩ := zbind hf
      refine z_getr C fl_Md_26 rfl h52 d_Md_crash_133 (z_pc (pc' := 136) rfl ?_)
      refine z_iload C d_Md_crash_136 rfl (z_pc (pc' := 138) rfl ?_)
      obtain ⟨x53, h54, hf⟩ := zbind hf
      refine z_iald C h54 d_Md_crash_138 (z_pc (pc' := 139) rfl ?_)
      refine z_iconst C d_Md_crash_139 (z_pc (pc' := 140) rfl ?_)
      refine z_icmp_ne (tgt := 166) C d_Md_crash_140 (by decide) (fun c55 => ?_) (fun c55 => z_pc (pc' := 143) rfl ?_)
      · have hf := zneg c55 hf
        refine z_iinc C d_Md_crash_166 rfl (by decide) (z_pl (pc' := 169) (L' := [some (zv n0 a0), none, none, some (zi a3), some (zi (zadd v4 1))]) rfl rfl ?_)
        refine z_goto (tgt := 123) C d_Md_crash_169 (by decide) ?_
        exact z_sub2 (ih _ _ hf) (And.intro rfl (And.intro rfl (And.intro rfl trivial)))
      · have hf := zpos c55 hf
        refine z_aload_n C d_Md_crash_143 rfl (z_pc (pc' := 144) rfl ?_)
        obtain ⟨x56, h57, hf⟩ := zbind hf
        refine z_getr C fl_Md_13 rfl h57 d_Md_crash_144 (z_pc (pc' := 147) rfl ?_)
        refine z_iload C d_Md_crash_147 rfl (z_pc (pc' := 149) rfl ?_)
        obtain ⟨x58, h59, hf⟩ := zbind hf
        refine z_iald C h59 d_Md_crash_149 (z_pc (pc' := 150) rfl ?_)
        refine z_aload_n C d_Md_crash_150 rfl (z_pc (pc' := 151) rfl ?_)
        obtain ⟨x60, h61, hf⟩ := zbind hf
        refine z_geti C fl_Md_89 h61 d_Md_crash_151 (z_pc (pc' := 154) rfl ?_)
        refine z_icmp_le (tgt := 166) C d_Md_crash_154 (by decide) (fun c62 => ?_) (fun c62 => z_pc (pc' := 157) rfl ?_)
        · have hf := zpos c62 hf
          refine z_iinc C d_Md_crash_166 rfl (by decide) (z_pl (pc' := 169) (L' := [some (zv n0 a0), none, none, some (zi a3), some (zi (zadd v4 1))]) rfl rfl ?_)
          refine z_goto (tgt := 123) C d_Md_crash_169 (by decide) ?_
          exact z_sub2 (ih _ _ hf) (And.intro rfl (And.intro rfl (And.intro rfl trivial)))
        · have hf := zneg c62 hf
          refine z_aload_n C d_Md_crash_157 rfl (z_pc (pc' := 158) rfl ?_)
          obtain ⟨x63, h64, hf⟩ := zbind hf
          refine z_getr C fl_Md_26 rfl h64 d_Md_crash_158 (z_pc (pc' := 161) rfl ?_)
          refine z_iload C d_Md_crash_161 rfl (z_pc (pc' := 163) rfl ?_)
          refine z_bipush C d_Md_crash_163 (by decide) (z_pc (pc' := 165) rfl ?_)
          obtain ⟨M65, h66, hf⟩ := zbind hf
          refine z_iast C h66 d_Md_crash_165 (z_pc (pc' := 166) rfl ?_)
          refine z_iinc C d_Md_crash_166 rfl (by decide) (z_pl (pc' := 169) (L' := [some (zv n0 a0), none, none, some (zi a3), some (zi (zadd v4 1))]) rfl rfl ?_)
          refine z_goto (tgt := 123) C d_Md_crash_169 (by decide) ?_
          exact z_sub2 (ih _ _ hf) (And.intro rfl (And.intro rfl (And.intro rfl trivial)))
set_option maxHeartbeats 4000000 in
set_option maxRecDepth 100000 in
theorem w_Md_crash_L185 {D : va_G} {n0 : Nat} {l : Launch} {p : Program} {e : Env} {s : State} {m : MethodId} {args : Array Value} {below : List Frame} {meth : Method} {c : Code} {a0 : Nat} {a3 : Int} {r : Int} {M' : zHp} {κ : zHp → Option (Int × zHp)} (C : zC D n0 p s m meth c b_Md_crash 5 "LayerVaultModel") (hr : meth.sig.returnType = (some .int))
    (hκ : ∀ (M1 : zHp), κ M1 = some (r, M') → zZ D n0 p l e { frames := 0, cells := 0, slots := 0, locals := 0 } s m args below meth c 5 0 0 (MQ below (zQc D n0 (some (zi r)) M') args s 0 0 (fun q => n0 ≤ q)) 205 [none, none, none, some (zi a3), none] [] M1) :
    ∀ (n : Nat) (v4 : Int) (M : zHp), f_Md_crash_L185 κ a0 n v4 M = some (r, M') → zZ D n0 p l e { frames := 0, cells := 0, slots := 0, locals := 0 } s m args below meth c 5 0 0 (MQ below (zQc D n0 (some (zi r)) M') args s 0 0 (fun q => n0 ≤ q)) 185 [some (zv n0 a0), none, none, some (zi a3), some (zi v4)] [] M := by
  intro n
  induction n with
  | zero =>
    intro v4 M hf
    exact absurd hf (by unfold f_Md_crash_L185; simp)
  | succ n ih =>
    intro v4 M hf
    unfold f_Md_crash_L185 at hf
    refine z_iload C d_Md_crash_185 rfl (z_pc (pc' := 187) rfl ?_)
    refine z_iconst C d_Md_crash_187 (z_pc (pc' := 188) rfl ?_)
    refine z_icmp_ge (tgt := 205) C d_Md_crash_188 (by decide) (fun c72 => ?_) (fun c72 => z_pc (pc' := 191) rfl ?_)
    · have hf := zpos c72 hf
      exact z_sub2 (hκ _ hf) (And.intro rfl trivial)
    · have hf := zneg c72 hf
      refine z_aload_n C d_Md_crash_191 rfl (z_pc (pc' := 192) rfl ?_)
      obtain ⟨x73, h74, hf⟩ := zbind hf
      refine z_getr C fl_Md_53 rfl h74 d_Md_crash_192 (z_pc (pc' := 195) rfl ?_)
      refine z_iload C d_Md_crash_195 rfl (z_pc (pc' := 197) rfl ?_)
      refine z_iconst C d_Md_crash_197 (z_pc (pc' := 198) rfl ?_)
      obtain ⟨M75, h76, hf⟩ := zbind hf
      refine z_bast C h76 d_Md_crash_198 (z_pc (pc' := 199) rfl ?_)
      refine z_iinc C d_Md_crash_199 rfl (by decide) (z_pl (pc' := 202) (L' := [some (zv n0 a0), none, none, some (zi a3), some (zi (zadd v4 1))]) rfl rfl ?_)
      refine z_goto (tgt := 185) C d_Md_crash_202 (by decide) ?_
      exact z_sub2 (ih _ _ hf) (And.intro rfl (And.intro rfl (And.intro rfl trivial)))
theorem e_Md_crash {a0 : Nat} {a1 : Int} {M : zHp} {q : Int × zHp} (hf : f_Md_crash a0 a1 M = some q) : zk M a0 = 8 := by
  unfold f_Md_crash at hf
  exact (zif hf).1
set_option maxHeartbeats 4000000 in
set_option maxRecDepth 100000 in
theorem c_Md_crash (D : va_G) (n0 : Nat) (l : Launch) {a0 : Nat} {a1 : Int} {M : zHp} {r : Int} {M' : zHp} (hf : f_Md_crash a0 a1 M = some (r, M')) : zM D n0 l y_Md_crash b_Md_crash 5 (some .int) 0 0 0 0 [zv n0 a0, zi a1] M (some (zi r)) M' := by
  refine zM.ofZ (by decide) (zcr (zci zcn)) (Nat.le_of_ble_eq_true rfl) ?_
  intro p e s m below meth c C hr hnm
  have C : zC D n0 p s m meth c b_Md_crash 5 "LayerVaultModel" := C
  refine z_eqL (L' := [some (zv n0 a0), some (zi a1), none, none, none]) rfl ?_
  unfold f_Md_crash at hf
  have hf := (zif hf).2
  refine z_iload_n C d_Md_crash_0 rfl (z_pc (pc' := 1) rfl ?_)
  refine z_if_ge (tgt := 8) C d_Md_crash_1 (by decide) (fun c1 => ?_) (fun c1 => z_pc (pc' := 4) rfl ?_)
  · have hf := zpos c1 hf
    refine z_iload_n C d_Md_crash_8 rfl (z_pc (pc' := 9) rfl ?_)
    refine z_aload_n C d_Md_crash_9 rfl (z_pc (pc' := 10) rfl ?_)
    obtain ⟨x2, h3, hf⟩ := zbind hf
    refine z_geti C fl_Md_125 h3 d_Md_crash_10 (z_pc (pc' := 13) rfl ?_)
    refine z_icmp_le (tgt := 23) C d_Md_crash_13 (by decide) (fun c4 => ?_) (fun c4 => z_pc (pc' := 16) rfl ?_)
    · have hf := zpos c4 hf
      refine z_iload_n C d_Md_crash_23 rfl (z_pc (pc' := 24) rfl ?_)
      refine z_istore_n C d_Md_crash_24 (by decide) (z_pl (pc' := 25) (L' := [some (zv n0 a0), some (zi a1), some (zi a1), none, none]) rfl rfl ?_)
      refine z_aload_n C d_Md_crash_25 rfl (z_pc (pc' := 26) rfl ?_)
      obtain ⟨x5, h6, hf⟩ := zbind hf
      refine z_geti C fl_Md_125 h6 d_Md_crash_26 (z_pc (pc' := 29) rfl ?_)
      refine z_iload_n C d_Md_crash_29 rfl (z_pc (pc' := 30) rfl ?_)
      refine z_isub C d_Md_crash_30 (z_pc (pc' := 31) rfl ?_)
      refine z_istore_n C d_Md_crash_31 (by decide) (z_pl (pc' := 32) (L' := [some (zv n0 a0), some (zi a1), some (zi a1), some (zi (zsub x5 a1)), none]) rfl rfl ?_)
      refine z_aload_n C d_Md_crash_32 rfl (z_pc (pc' := 33) rfl ?_)
      obtain ⟨x7, h8, hf⟩ := zbind hf
      refine z_geti C fl_Md_125 h8 d_Md_crash_33 (z_pc (pc' := 36) rfl ?_)
      refine z_iconst C d_Md_crash_36 (z_pc (pc' := 37) rfl ?_)
      refine z_isub C d_Md_crash_37 (z_pc (pc' := 38) rfl ?_)
      refine z_istore C d_Md_crash_38 (by decide) (z_pl (pc' := 40) (L' := [some (zv n0 a0), some (zi a1), some (zi a1), some (zi (zsub x5 a1)), some (zi (zsub x7 1))]) rfl rfl ?_)
      refine z_sub2 (w_Md_crash_L40 C hr ?_ _ _ _ hf) (And.intro rfl (And.intro rfl (And.intro rfl (And.intro rfl trivial))))
      intro M47 hf
      refine z_iconst C d_Md_crash_120 (z_pc (pc' := 121) rfl ?_)
      refine z_istore C d_Md_crash_121 (by decide) (z_pl (pc' := 123) (L' := [some (zv n0 a0), none, none, some (zi (zsub x5 a1)), some (zi 0)]) rfl rfl ?_)
      refine z_sub2 (w_Md_crash_L123 C hr ?_ _ _ _ hf) (And.intro rfl (And.intro rfl (And.intro rfl trivial)))
      intro M67 hf
      refine z_aload_n C d_Md_crash_172 rfl (z_pc (pc' := 173) rfl ?_)
      refine z_iconst C d_Md_crash_173 (z_pc (pc' := 174) rfl ?_)
      obtain ⟨M68, h69, hf⟩ := zbind hf
      refine z_puti C fp_Md_125 (by decide) rfl h69 d_Md_crash_174 (z_pc (pc' := 177) rfl ?_)
      refine z_aload_n C d_Md_crash_177 rfl (z_pc (pc' := 178) rfl ?_)
      refine z_iconst C d_Md_crash_178 (z_pc (pc' := 179) rfl ?_)
      obtain ⟨M70, h71, hf⟩ := zbind hf
      refine z_puti C fp_Md_134 (by decide) rfl h71 d_Md_crash_179 (z_pc (pc' := 182) rfl ?_)
      refine z_iconst C d_Md_crash_182 (z_pc (pc' := 183) rfl ?_)
      refine z_istore C d_Md_crash_183 (by decide) (z_pl (pc' := 185) (L' := [some (zv n0 a0), none, none, some (zi (zsub x5 a1)), some (zi 0)]) rfl rfl ?_)
      refine z_sub2 (w_Md_crash_L185 C hr ?_ _ _ _ hf) (And.intro rfl (And.intro rfl (And.intro rfl trivial)))
      intro M77 hf
      refine z_iload_n C d_Md_crash_205 rfl (z_pc (pc' := 206) rfl ?_)
      exact z_iret C hr (Nat.le_of_ble_eq_true rfl) (Nat.le_of_ble_eq_true rfl) d_Md_crash_206 hf
    · have hf := zneg c4 hf
      refine z_aload_n C d_Md_crash_16 rfl (z_pc (pc' := 17) rfl ?_)
      obtain ⟨x78, h79, hf⟩ := zbind hf
      refine z_geti C fl_Md_125 h79 d_Md_crash_17 (z_pc (pc' := 20) rfl ?_)
      refine z_goto (tgt := 24) C d_Md_crash_20 (by decide) ?_
      refine z_istore_n C d_Md_crash_24 (by decide) (z_pl (pc' := 25) (L' := [some (zv n0 a0), some (zi a1), some (zi x78), none, none]) rfl rfl ?_)
      refine z_aload_n C d_Md_crash_25 rfl (z_pc (pc' := 26) rfl ?_)
      obtain ⟨x80, h81, hf⟩ := zbind hf
      refine z_geti C fl_Md_125 h81 d_Md_crash_26 (z_pc (pc' := 29) rfl ?_)
      refine z_iload_n C d_Md_crash_29 rfl (z_pc (pc' := 30) rfl ?_)
      refine z_isub C d_Md_crash_30 (z_pc (pc' := 31) rfl ?_)
      refine z_istore_n C d_Md_crash_31 (by decide) (z_pl (pc' := 32) (L' := [some (zv n0 a0), some (zi a1), some (zi x78), some (zi (zsub x80 x78)), none]) rfl rfl ?_)
      refine z_aload_n C d_Md_crash_32 rfl (z_pc (pc' := 33) rfl ?_)
      obtain ⟨x82, h83, hf⟩ := zbind hf
      refine z_geti C fl_Md_125 h83 d_Md_crash_33 (z_pc (pc' := 36) rfl ?_)
      refine z_iconst C d_Md_crash_36 (z_pc (pc' := 37) rfl ?_)
      refine z_isub C d_Md_crash_37 (z_pc (pc' := 38) rfl ?_)
      refine z_istore C d_Md_crash_38 (by decide) (z_pl (pc' := 40) (L' := [some (zv n0 a0), some (zi a1), some (zi x78), some (zi (zsub x80 x78)), some (zi (zsub x82 1))]) rfl rfl ?_)
      refine z_sub2 (w_Md_crash_L40 C hr ?_ _ _ _ hf) (And.intro rfl (And.intro rfl (And.intro rfl (And.intro rfl trivial))))
      intro M84 hf
      refine z_iconst C d_Md_crash_120 (z_pc (pc' := 121) rfl ?_)
      refine z_istore C d_Md_crash_121 (by decide) (z_pl (pc' := 123) (L' := [some (zv n0 a0), none, none, some (zi (zsub x80 x78)), some (zi 0)]) rfl rfl ?_)
      refine z_sub2 (w_Md_crash_L123 C hr ?_ _ _ _ hf) (And.intro rfl (And.intro rfl (And.intro rfl trivial)))
      intro M85 hf
      refine z_aload_n C d_Md_crash_172 rfl (z_pc (pc' := 173) rfl ?_)
      refine z_iconst C d_Md_crash_173 (z_pc (pc' := 174) rfl ?_)
      obtain ⟨M86, h87, hf⟩ := zbind hf
      refine z_puti C fp_Md_125 (by decide) rfl h87 d_Md_crash_174 (z_pc (pc' := 177) rfl ?_)
      refine z_aload_n C d_Md_crash_177 rfl (z_pc (pc' := 178) rfl ?_)
      refine z_iconst C d_Md_crash_178 (z_pc (pc' := 179) rfl ?_)
      obtain ⟨M88, h89, hf⟩ := zbind hf
      refine z_puti C fp_Md_134 (by decide) rfl h89 d_Md_crash_179 (z_pc (pc' := 182) rfl ?_)
      refine z_iconst C d_Md_crash_182 (z_pc (pc' := 183) rfl ?_)
      refine z_istore C d_Md_crash_183 (by decide) (z_pl (pc' := 185) (L' := [some (zv n0 a0), none, none, some (zi (zsub x80 x78)), some (zi 0)]) rfl rfl ?_)
      refine z_sub2 (w_Md_crash_L185 C hr ?_ _ _ _ hf) (And.intro rfl (And.intro rfl (And.intro rfl trivial)))
      intro M90 hf
      refine z_iload_n C d_Md_crash_205 rfl (z_pc (pc' := 206) rfl ?_)
      exact z_iret C hr (Nat.le_of_ble_eq_true rfl) (Nat.le_of_ble_eq_true rfl) d_Md_crash_206 hf
  · have hf := zneg c1 hf
    refine z_iconst C d_Md_crash_4 (z_pc (pc' := 5) rfl ?_)
    refine z_goto (tgt := 24) C d_Md_crash_5 (by decide) ?_
    refine z_istore_n C d_Md_crash_24 (by decide) (z_pl (pc' := 25) (L' := [some (zv n0 a0), some (zi a1), some (zi 0), none, none]) rfl rfl ?_)
    refine z_aload_n C d_Md_crash_25 rfl (z_pc (pc' := 26) rfl ?_)
    obtain ⟨x91, h92, hf⟩ := zbind hf
    refine z_geti C fl_Md_125 h92 d_Md_crash_26 (z_pc (pc' := 29) rfl ?_)
    refine z_iload_n C d_Md_crash_29 rfl (z_pc (pc' := 30) rfl ?_)
    refine z_isub C d_Md_crash_30 (z_pc (pc' := 31) rfl ?_)
    refine z_istore_n C d_Md_crash_31 (by decide) (z_pl (pc' := 32) (L' := [some (zv n0 a0), some (zi a1), some (zi 0), some (zi (zsub x91 0)), none]) rfl rfl ?_)
    refine z_aload_n C d_Md_crash_32 rfl (z_pc (pc' := 33) rfl ?_)
    obtain ⟨x93, h94, hf⟩ := zbind hf
    refine z_geti C fl_Md_125 h94 d_Md_crash_33 (z_pc (pc' := 36) rfl ?_)
    refine z_iconst C d_Md_crash_36 (z_pc (pc' := 37) rfl ?_)
    refine z_isub C d_Md_crash_37 (z_pc (pc' := 38) rfl ?_)
    refine z_istore C d_Md_crash_38 (by decide) (z_pl (pc' := 40) (L' := [some (zv n0 a0), some (zi a1), some (zi 0), some (zi (zsub x91 0)), some (zi (zsub x93 1))]) rfl rfl ?_)
    refine z_sub2 (w_Md_crash_L40 C hr ?_ _ _ _ hf) (And.intro rfl (And.intro rfl (And.intro rfl (And.intro rfl trivial))))
    intro M95 hf
    refine z_iconst C d_Md_crash_120 (z_pc (pc' := 121) rfl ?_)
    refine z_istore C d_Md_crash_121 (by decide) (z_pl (pc' := 123) (L' := [some (zv n0 a0), none, none, some (zi (zsub x91 0)), some (zi 0)]) rfl rfl ?_)
    refine z_sub2 (w_Md_crash_L123 C hr ?_ _ _ _ hf) (And.intro rfl (And.intro rfl (And.intro rfl trivial)))
    intro M96 hf
    refine z_aload_n C d_Md_crash_172 rfl (z_pc (pc' := 173) rfl ?_)
    refine z_iconst C d_Md_crash_173 (z_pc (pc' := 174) rfl ?_)
    obtain ⟨M97, h98, hf⟩ := zbind hf
    refine z_puti C fp_Md_125 (by decide) rfl h98 d_Md_crash_174 (z_pc (pc' := 177) rfl ?_)
    refine z_aload_n C d_Md_crash_177 rfl (z_pc (pc' := 178) rfl ?_)
    refine z_iconst C d_Md_crash_178 (z_pc (pc' := 179) rfl ?_)
    obtain ⟨M99, h100, hf⟩ := zbind hf
    refine z_puti C fp_Md_134 (by decide) rfl h100 d_Md_crash_179 (z_pc (pc' := 182) rfl ?_)
    refine z_iconst C d_Md_crash_182 (z_pc (pc' := 183) rfl ?_)
    refine z_istore C d_Md_crash_183 (by decide) (z_pl (pc' := 185) (L' := [some (zv n0 a0), none, none, some (zi (zsub x91 0)), some (zi 0)]) rfl rfl ?_)
    refine z_sub2 (w_Md_crash_L185 C hr ?_ _ _ _ hf) (And.intro rfl (And.intro rfl (And.intro rfl trivial)))
    intro M101 hf
    refine z_iload_n C d_Md_crash_205 rfl (z_pc (pc' := 206) rfl ?_)
    exact z_iret C hr (Nat.le_of_ble_eq_true rfl) (Nat.le_of_ble_eq_true rfl) d_Md_crash_206 hf
theorem e_Md_isView {a0 : Nat} {a1 : Int} {M : zHp} {q : Int × zHp} (hf : f_Md_isView a0 a1 M = some q) : zk M a0 = 8 := by
  unfold f_Md_isView at hf
  exact (zif hf).1
set_option maxHeartbeats 4000000 in
set_option maxRecDepth 100000 in
theorem c_Md_isView (D : va_G) (n0 : Nat) (l : Launch) {a0 : Nat} {a1 : Int} {M : zHp} {r : Int} {M' : zHp} (hf : f_Md_isView a0 a1 M = some (r, M')) : zM D n0 l y_Md_isView b_Md_isView 2 (some .boolean) 0 0 0 0 [zv n0 a0, zi a1] M (some (zi r)) M' := by
  refine zM.ofZ (by decide) (zcr (zci zcn)) (Nat.le_of_ble_eq_true rfl) ?_
  intro p e s m below meth c C hr hnm
  have C : zC D n0 p s m meth c b_Md_isView 2 "LayerVaultModel" := C
  refine z_eqL (L' := [some (zv n0 a0), some (zi a1)]) rfl ?_
  unfold f_Md_isView at hf
  have hf := (zif hf).2
  refine z_iload_n C d_Md_isView_0 rfl (z_pc (pc' := 1) rfl ?_)
  refine z_iconst C d_Md_isView_1 (z_pc (pc' := 2) rfl ?_)
  refine z_icmp_eq (tgt := 23) C d_Md_isView_2 (by decide) (fun c1 => ?_) (fun c1 => z_pc (pc' := 5) rfl ?_)
  · have hf := zpos c1 hf
    refine z_iconst C d_Md_isView_23 (z_pc (pc' := 24) rfl ?_)
    refine z_goto (tgt := 28) C d_Md_isView_24 (by decide) ?_
    exact z_zret C hr rfl (Nat.le_of_ble_eq_true rfl) (Nat.le_of_ble_eq_true rfl) d_Md_isView_28 hf
  · have hf := zneg c1 hf
    refine z_iload_n C d_Md_isView_5 rfl (z_pc (pc' := 6) rfl ?_)
    refine z_if_lt (tgt := 27) C d_Md_isView_6 (by decide) (fun c2 => ?_) (fun c2 => z_pc (pc' := 9) rfl ?_)
    · have hf := zpos c2 hf
      refine z_iconst C d_Md_isView_27 (z_pc (pc' := 28) rfl ?_)
      exact z_zret C hr rfl (Nat.le_of_ble_eq_true rfl) (Nat.le_of_ble_eq_true rfl) d_Md_isView_28 hf
    · have hf := zneg c2 hf
      refine z_iload_n C d_Md_isView_9 rfl (z_pc (pc' := 10) rfl ?_)
      refine z_iconst C d_Md_isView_10 (z_pc (pc' := 11) rfl ?_)
      refine z_icmp_ge (tgt := 27) C d_Md_isView_11 (by decide) (fun c3 => ?_) (fun c3 => z_pc (pc' := 14) rfl ?_)
      · have hf := zpos c3 hf
        refine z_iconst C d_Md_isView_27 (z_pc (pc' := 28) rfl ?_)
        exact z_zret C hr rfl (Nat.le_of_ble_eq_true rfl) (Nat.le_of_ble_eq_true rfl) d_Md_isView_28 hf
      · have hf := zneg c3 hf
        refine z_aload_n C d_Md_isView_14 rfl (z_pc (pc' := 15) rfl ?_)
        obtain ⟨x4, h5, hf⟩ := zbind hf
        refine z_getr C fl_Md_53 rfl h5 d_Md_isView_15 (z_pc (pc' := 18) rfl ?_)
        refine z_iload_n C d_Md_isView_18 rfl (z_pc (pc' := 19) rfl ?_)
        obtain ⟨x6, h7, hf⟩ := zbind hf
        refine z_bald C h7 d_Md_isView_19 (z_pc (pc' := 20) rfl ?_)
        refine z_if_eq (tgt := 27) C d_Md_isView_20 (by decide) (fun c8 => ?_) (fun c8 => z_pc (pc' := 23) rfl ?_)
        · have hf := zpos c8 hf
          refine z_iconst C d_Md_isView_27 (z_pc (pc' := 28) rfl ?_)
          exact z_zret C hr rfl (Nat.le_of_ble_eq_true rfl) (Nat.le_of_ble_eq_true rfl) d_Md_isView_28 hf
        · have hf := zneg c8 hf
          refine z_iconst C d_Md_isView_23 (z_pc (pc' := 24) rfl ?_)
          refine z_goto (tgt := 28) C d_Md_isView_24 (by decide) ?_
          exact z_zret C hr rfl (Nat.le_of_ble_eq_true rfl) (Nat.le_of_ble_eq_true rfl) d_Md_isView_28 hf
theorem e_Md_isSeen {a0 : Nat} {a1 : Int} {a2 : Int} {M : zHp} {q : Int × zHp} (hf : f_Md_isSeen a0 a1 a2 M = some q) : zk M a0 = 8 := by
  unfold f_Md_isSeen at hf
  exact (zif hf).1
set_option maxHeartbeats 4000000 in
set_option maxRecDepth 100000 in
theorem c_Md_isSeen (D : va_G) (n0 : Nat) (l : Launch) {a0 : Nat} {a1 : Int} {a2 : Int} {M : zHp} {r : Int} {M' : zHp} (hf : f_Md_isSeen a0 a1 a2 M = some (r, M')) : zM D n0 l y_Md_isSeen b_Md_isSeen 3 (some .boolean) 0 0 0 0 [zv n0 a0, zi a1, zi a2] M (some (zi r)) M' := by
  refine zM.ofZ (by decide) (zcr (zci (zci zcn))) (Nat.le_of_ble_eq_true rfl) ?_
  intro p e s m below meth c C hr hnm
  have C : zC D n0 p s m meth c b_Md_isSeen 3 "LayerVaultModel" := C
  refine z_eqL (L' := [some (zv n0 a0), some (zi a1), some (zi a2)]) rfl ?_
  unfold f_Md_isSeen at hf
  have hf := (zif hf).2
  refine z_iload_n C d_Md_isSeen_0 rfl (z_pc (pc' := 1) rfl ?_)
  refine z_if_lt (tgt := 19) C d_Md_isSeen_1 (by decide) (fun c1 => ?_) (fun c1 => z_pc (pc' := 4) rfl ?_)
  · have hf := zpos c1 hf
    refine z_iconst C d_Md_isSeen_19 (z_pc (pc' := 20) rfl ?_)
    refine z_goto (tgt := 24) C d_Md_isSeen_20 (by decide) ?_
    exact z_zret C hr rfl (Nat.le_of_ble_eq_true rfl) (Nat.le_of_ble_eq_true rfl) d_Md_isSeen_24 hf
  · have hf := zneg c1 hf
    refine z_aload_n C d_Md_isSeen_4 rfl (z_pc (pc' := 5) rfl ?_)
    obtain ⟨x2, h3, hf⟩ := zbind hf
    refine z_getr C fl_Md_13 rfl h3 d_Md_isSeen_5 (z_pc (pc' := 8) rfl ?_)
    refine z_iload_n C d_Md_isSeen_8 rfl (z_pc (pc' := 9) rfl ?_)
    obtain ⟨x4, h5, hf⟩ := zbind hf
    refine z_iald C h5 d_Md_isSeen_9 (z_pc (pc' := 10) rfl ?_)
    refine z_aload_n C d_Md_isSeen_10 rfl (z_pc (pc' := 11) rfl ?_)
    obtain ⟨x6, h7, hf⟩ := zbind hf
    refine z_getr C fl_Md_56 rfl h7 d_Md_isSeen_11 (z_pc (pc' := 14) rfl ?_)
    refine z_iload_n C d_Md_isSeen_14 rfl (z_pc (pc' := 15) rfl ?_)
    obtain ⟨x8, h9, hf⟩ := zbind hf
    refine z_iald C h9 d_Md_isSeen_15 (z_pc (pc' := 16) rfl ?_)
    refine z_icmp_gt (tgt := 23) C d_Md_isSeen_16 (by decide) (fun c10 => ?_) (fun c10 => z_pc (pc' := 19) rfl ?_)
    · have hf := zpos c10 hf
      refine z_iconst C d_Md_isSeen_23 (z_pc (pc' := 24) rfl ?_)
      exact z_zret C hr rfl (Nat.le_of_ble_eq_true rfl) (Nat.le_of_ble_eq_true rfl) d_Md_isSeen_24 hf
    · have hf := zneg c10 hf
      refine z_iconst C d_Md_isSeen_19 (z_pc (pc' := 20) rfl ?_)
      refine z_goto (tgt := 24) C d_Md_isSeen_20 (by decide) ?_
      exact z_zret C hr rfl (Nat.le_of_ble_eq_true rfl) (Nat.le_of_ble_eq_true rfl) d_Md_isSeen_24 hf
theorem e_Md_tableOf {a0 : Nat} {a1 : Int} {M : zHp} {q : Int × zHp} (hf : f_Md_tableOf a0 a1 M = some q) : zk M a0 = 8 := by
  unfold f_Md_tableOf at hf
  exact (zif hf).1
set_option maxHeartbeats 4000000 in
set_option maxRecDepth 100000 in
theorem c_Md_tableOf (D : va_G) (n0 : Nat) (l : Launch) {a0 : Nat} {a1 : Int} {M : zHp} {r : Int} {M' : zHp} (hf : f_Md_tableOf a0 a1 M = some (r, M')) : zM D n0 l y_Md_tableOf b_Md_tableOf 2 (some .int) 0 0 0 0 [zv n0 a0, zi a1] M (some (zi r)) M' := by
  refine zM.ofZ (by decide) (zcr (zci zcn)) (Nat.le_of_ble_eq_true rfl) ?_
  intro p e s m below meth c C hr hnm
  have C : zC D n0 p s m meth c b_Md_tableOf 2 "LayerVaultModel" := C
  refine z_eqL (L' := [some (zv n0 a0), some (zi a1)]) rfl ?_
  unfold f_Md_tableOf at hf
  have hf := (zif hf).2
  refine z_aload_n C d_Md_tableOf_0 rfl (z_pc (pc' := 1) rfl ?_)
  obtain ⟨x1, h2, hf⟩ := zbind hf
  refine z_getr C fl_Md_26 rfl h2 d_Md_tableOf_1 (z_pc (pc' := 4) rfl ?_)
  refine z_iload_n C d_Md_tableOf_4 rfl (z_pc (pc' := 5) rfl ?_)
  obtain ⟨x3, h4, hf⟩ := zbind hf
  refine z_iald C h4 d_Md_tableOf_5 (z_pc (pc' := 6) rfl ?_)
  refine z_if_ne (tgt := 23) C d_Md_tableOf_6 (by decide) (fun c5 => ?_) (fun c5 => z_pc (pc' := 9) rfl ?_)
  · have hf := zneg c5 hf
    refine z_aload_n C d_Md_tableOf_23 rfl (z_pc (pc' := 24) rfl ?_)
    obtain ⟨x6, h7, hf⟩ := zbind hf
    refine z_getr C fl_Md_29 rfl h7 d_Md_tableOf_24 (z_pc (pc' := 27) rfl ?_)
    refine z_iload_n C d_Md_tableOf_27 rfl (z_pc (pc' := 28) rfl ?_)
    obtain ⟨x8, h9, hf⟩ := zbind hf
    refine z_iald C h9 d_Md_tableOf_28 (z_pc (pc' := 29) rfl ?_)
    refine z_bipush C d_Md_tableOf_29 (by decide) (z_pc (pc' := 31) rfl ?_)
    refine z_idiv C (by decide) d_Md_tableOf_31 (z_pc (pc' := 32) rfl ?_)
    exact z_iret C hr (Nat.le_of_ble_eq_true rfl) (Nat.le_of_ble_eq_true rfl) d_Md_tableOf_32 hf
  · have hf := zpos c5 hf
    refine z_aload_n C d_Md_tableOf_9 rfl (z_pc (pc' := 10) rfl ?_)
    obtain ⟨x10, h11, hf⟩ := zbind hf
    refine z_geti C fl_Md_122 h11 d_Md_tableOf_10 (z_pc (pc' := 13) rfl ?_)
    refine z_aload_n C d_Md_tableOf_13 rfl (z_pc (pc' := 14) rfl ?_)
    obtain ⟨x12, h13, hf⟩ := zbind hf
    refine z_getr C fl_Md_29 rfl h13 d_Md_tableOf_14 (z_pc (pc' := 17) rfl ?_)
    refine z_iload_n C d_Md_tableOf_17 rfl (z_pc (pc' := 18) rfl ?_)
    obtain ⟨x14, h15, hf⟩ := zbind hf
    refine z_iald C h15 d_Md_tableOf_18 (z_pc (pc' := 19) rfl ?_)
    refine z_isub C d_Md_tableOf_19 (z_pc (pc' := 20) rfl ?_)
    refine z_goto (tgt := 32) C d_Md_tableOf_20 (by decide) ?_
    exact z_iret C hr (Nat.le_of_ble_eq_true rfl) (Nat.le_of_ble_eq_true rfl) d_Md_tableOf_32 hf
theorem e_Md_tables {a0 : Nat} {a1 : Int} {M : zHp} {q : Int × zHp} (hf : f_Md_tables a0 a1 M = some q) : zk M a0 = 8 := by
  unfold f_Md_tables at hf
  exact (zif hf).1
set_option maxHeartbeats 4000000 in
set_option maxRecDepth 100000 in
theorem c_Md_tables (D : va_G) (n0 : Nat) (l : Launch) {a0 : Nat} {a1 : Int} {M : zHp} {r : Int} {M' : zHp} (hf : f_Md_tables a0 a1 M = some (r, M')) : zM D n0 l y_Md_tables b_Md_tables 2 (some .int) 1 23 0 0 [zv n0 a0, zi a1] M (some (zi r)) M' := by
  refine zM.ofZ (by decide) (zcr (zci zcn)) (Nat.le_of_ble_eq_true rfl) ?_
  intro p e s m below meth c C hr hnm
  have C : zC D n0 p s m meth c b_Md_tables 2 "LayerVaultModel" := C
  refine z_eqL (L' := [some (zv n0 a0), some (zi a1)]) rfl ?_
  unfold f_Md_tables at hf
  have hf := (zif hf).2
  refine z_iload_n C d_Md_tables_0 rfl (z_pc (pc' := 1) rfl ?_)
  refine z_if_ne (tgt := 11) C d_Md_tables_1 (by decide) (fun c1 => ?_) (fun c1 => z_pc (pc' := 4) rfl ?_)
  · have hf := zneg c1 hf
    refine z_aload_n C d_Md_tables_11 rfl (z_pc (pc' := 12) rfl ?_)
    refine z_iload_n C d_Md_tables_12 rfl (z_pc (pc' := 13) rfl ?_)
    obtain ⟨x4, M3, h2, hf⟩ := zb2_inv hf
    refine z_callV C [zi a1] [] kv_Md_109 (c_Md_size D n0 l h2) (e_Md_size h2) ⟨(Nat.le_of_ble_eq_true rfl), (Nat.le_of_ble_eq_true rfl)⟩ (Nat.le_of_ble_eq_true rfl) ⟨(Nat.le_of_ble_eq_true rfl), (Nat.le_of_ble_eq_true rfl)⟩ d_Md_tables_13 (z_pc (pc' := 16) rfl ?_)
    refine z_iconst C d_Md_tables_16 (z_pc (pc' := 17) rfl ?_)
    refine z_iadd C d_Md_tables_17 (z_pc (pc' := 18) rfl ?_)
    refine z_bipush C d_Md_tables_18 (by decide) (z_pc (pc' := 20) rfl ?_)
    refine z_idiv C (by decide) d_Md_tables_20 (z_pc (pc' := 21) rfl ?_)
    exact z_iret C hr (Nat.le_of_ble_eq_true rfl) (Nat.le_of_ble_eq_true rfl) d_Md_tables_21 hf
  · have hf := zpos c1 hf
    refine z_aload_n C d_Md_tables_4 rfl (z_pc (pc' := 5) rfl ?_)
    obtain ⟨x5, h6, hf⟩ := zbind hf
    refine z_geti C fl_Md_106 h6 d_Md_tables_5 (z_pc (pc' := 8) rfl ?_)
    refine z_goto (tgt := 21) C d_Md_tables_8 (by decide) ?_
    exact z_iret C hr (Nat.le_of_ble_eq_true rfl) (Nat.le_of_ble_eq_true rfl) d_Md_tables_21 hf
theorem e_Md_lies {a0 : Nat} {a1 : Int} {a2 : Int} {a3 : Int} {M : zHp} {q : Int × zHp} (hf : f_Md_lies a0 a1 a2 a3 M = some q) : zk M a0 = 8 := by
  unfold f_Md_lies at hf
  exact (zif hf).1
set_option maxHeartbeats 4000000 in
set_option maxRecDepth 100000 in
theorem c_Md_lies (D : va_G) (n0 : Nat) (l : Launch) {a0 : Nat} {a1 : Int} {a2 : Int} {a3 : Int} {M : zHp} {r : Int} {M' : zHp} (hf : f_Md_lies a0 a1 a2 a3 M = some (r, M')) : zM D n0 l y_Md_lies b_Md_lies 4 (some .boolean) 1 21 0 0 [zv n0 a0, zi a1, zi a2, zi a3] M (some (zi r)) M' := by
  refine zM.ofZ (by decide) (zcr (zci (zci (zci zcn)))) (Nat.le_of_ble_eq_true rfl) ?_
  intro p e s m below meth c C hr hnm
  have C : zC D n0 p s m meth c b_Md_lies 4 "LayerVaultModel" := C
  refine z_eqL (L' := [some (zv n0 a0), some (zi a1), some (zi a2), some (zi a3)]) rfl ?_
  unfold f_Md_lies at hf
  have hf := (zif hf).2
  refine z_aload_n C d_Md_lies_0 rfl (z_pc (pc' := 1) rfl ?_)
  obtain ⟨x1, h2, hf⟩ := zbind hf
  refine z_getr C fl_Md_26 rfl h2 d_Md_lies_1 (z_pc (pc' := 4) rfl ?_)
  refine z_iload_n C d_Md_lies_4 rfl (z_pc (pc' := 5) rfl ?_)
  obtain ⟨x3, h4, hf⟩ := zbind hf
  refine z_iald C h4 d_Md_lies_5 (z_pc (pc' := 6) rfl ?_)
  refine z_iload_n C d_Md_lies_6 rfl (z_pc (pc' := 7) rfl ?_)
  refine z_icmp_ne (tgt := 28) C d_Md_lies_7 (by decide) (fun c5 => ?_) (fun c5 => z_pc (pc' := 10) rfl ?_)
  · have hf := zneg c5 hf
    refine z_iconst C d_Md_lies_28 (z_pc (pc' := 29) rfl ?_)
    exact z_zret C hr rfl (Nat.le_of_ble_eq_true rfl) (Nat.le_of_ble_eq_true rfl) d_Md_lies_29 hf
  · have hf := zpos c5 hf
    refine z_iload_n C d_Md_lies_10 rfl (z_pc (pc' := 11) rfl ?_)
    refine z_iconst C d_Md_lies_11 (z_pc (pc' := 12) rfl ?_)
    refine z_icmp_eq (tgt := 24) C d_Md_lies_12 (by decide) (fun c6 => ?_) (fun c6 => z_pc (pc' := 15) rfl ?_)
    · have hf := zpos c6 hf
      refine z_iconst C d_Md_lies_24 (z_pc (pc' := 25) rfl ?_)
      refine z_goto (tgt := 29) C d_Md_lies_25 (by decide) ?_
      exact z_zret C hr rfl (Nat.le_of_ble_eq_true rfl) (Nat.le_of_ble_eq_true rfl) d_Md_lies_29 hf
    · have hf := zneg c6 hf
      refine z_aload_n C d_Md_lies_15 rfl (z_pc (pc' := 16) rfl ?_)
      refine z_iload_n C d_Md_lies_16 rfl (z_pc (pc' := 17) rfl ?_)
      obtain ⟨x9, M8, h7, hf⟩ := zb2_inv hf
      refine z_callV C [zi a1] [] kv_Md_165 (c_Md_tableOf D n0 l h7) (e_Md_tableOf h7) ⟨(Nat.le_of_ble_eq_true rfl), (Nat.le_of_ble_eq_true rfl)⟩ (Nat.le_of_ble_eq_true rfl) ⟨(Nat.le_of_ble_eq_true rfl), (Nat.le_of_ble_eq_true rfl)⟩ d_Md_lies_17 (z_pc (pc' := 20) rfl ?_)
      refine z_iload_n C d_Md_lies_20 rfl (z_pc (pc' := 21) rfl ?_)
      refine z_icmp_ne (tgt := 28) C d_Md_lies_21 (by decide) (fun c10 => ?_) (fun c10 => z_pc (pc' := 24) rfl ?_)
      · have hf := zneg c10 hf
        refine z_iconst C d_Md_lies_28 (z_pc (pc' := 29) rfl ?_)
        exact z_zret C hr rfl (Nat.le_of_ble_eq_true rfl) (Nat.le_of_ble_eq_true rfl) d_Md_lies_29 hf
      · have hf := zpos c10 hf
        refine z_iconst C d_Md_lies_24 (z_pc (pc' := 25) rfl ?_)
        refine z_goto (tgt := 29) C d_Md_lies_25 (by decide) ?_
        exact z_zret C hr rfl (Nat.le_of_ble_eq_true rfl) (Nat.le_of_ble_eq_true rfl) d_Md_lies_29 hf
set_option maxHeartbeats 4000000 in
set_option maxRecDepth 100000 in
theorem w_Md_latest_L6 {D : va_G} {n0 : Nat} {l : Launch} {p : Program} {e : Env} {s : State} {m : MethodId} {args : Array Value} {below : List Frame} {meth : Method} {c : Code} {a0 : Nat} {a1 : Int} {a2 : Int} {a3 : Int} {a4 : Int} {r : Int} {M' : zHp} {κ : Int → zHp → Option (Int × zHp)} (C : zC D n0 p s m meth c b_Md_latest 8 "LayerVaultModel") (hr : meth.sig.returnType = (some .int))
    (hκ : ∀ (u5 : Int) (M1 : zHp), κ u5 M1 = some (r, M') → zZ D n0 p l e { frames := 2, cells := 0, slots := 0, locals := 44 } s m args below meth c 8 0 0 (MQ below (zQc D n0 (some (zi r)) M') args s 0 0 (fun q => n0 ≤ q)) 92 [none, none, none, none, none, some (zi u5), none, none] [] M1) :
    ∀ (n : Nat) (v5 : Int) (v6 : Int) (M : zHp), f_Md_latest_L6 κ a0 a1 a2 a3 a4 n v5 v6 M = some (r, M') → zZ D n0 p l e { frames := 2, cells := 0, slots := 0, locals := 44 } s m args below meth c 8 0 0 (MQ below (zQc D n0 (some (zi r)) M') args s 0 0 (fun q => n0 ≤ q)) 6 [some (zv n0 a0), some (zi a1), some (zi a2), some (zi a3), some (zi a4), some (zi v5), some (zi v6), none] [] M := by
  intro n
  induction n with
  | zero =>
    intro v5 v6 M hf
    exact absurd hf (by unfold f_Md_latest_L6; simp)
  | succ n ih =>
    intro v5 v6 M hf
    unfold f_Md_latest_L6 at hf
    refine z_iload C d_Md_latest_6 rfl (z_pc (pc' := 8) rfl ?_)
    refine z_aload_n C d_Md_latest_8 rfl (z_pc (pc' := 9) rfl ?_)
    obtain ⟨x1, h2, hf⟩ := zbind hf
    refine z_geti C fl_Md_75 h2 d_Md_latest_9 (z_pc (pc' := 12) rfl ?_)
    refine z_icmp_ge (tgt := 92) C d_Md_latest_12 (by decide) (fun c3 => ?_) (fun c3 => z_pc (pc' := 15) rfl ?_)
    · have hf := zpos c3 hf
      exact z_sub2 (hκ _ _ hf) (And.intro rfl trivial)
    · have hf := zneg c3 hf
      refine z_aload_n C d_Md_latest_15 rfl (z_pc (pc' := 16) rfl ?_)
      refine z_iload C d_Md_latest_16 rfl (z_pc (pc' := 18) rfl ?_)
      refine z_iload_n C d_Md_latest_18 rfl (z_pc (pc' := 19) rfl ?_)
      refine z_iload_n C d_Md_latest_19 rfl (z_pc (pc' := 20) rfl ?_)
      obtain ⟨x6, M5, h4, hf⟩ := zb2_inv hf
      refine z_callV C [zi v6, zi a1, zi a2] [] kv_Md_168 (c_Md_lies D n0 l h4) (e_Md_lies h4) ⟨(Nat.le_of_ble_eq_true rfl), (Nat.le_of_ble_eq_true rfl)⟩ (Nat.le_of_ble_eq_true rfl) ⟨(Nat.le_of_ble_eq_true rfl), (Nat.le_of_ble_eq_true rfl)⟩ d_Md_latest_20 (z_pc (pc' := 23) rfl ?_)
      refine z_if_eq (tgt := 52) C d_Md_latest_23 (by decide) (fun c7 => ?_) (fun c7 => z_pc (pc' := 26) rfl ?_)
      · have hf := zpos c7 hf
        refine z_iconst C d_Md_latest_52 (z_pc (pc' := 53) rfl ?_)
        refine z_istore C d_Md_latest_53 (by decide) (z_pl (pc' := 55) (L' := [some (zv n0 a0), some (zi a1), some (zi a2), some (zi a3), some (zi a4), some (zi v5), some (zi v6), some (zi 0)]) rfl rfl ?_)
        refine z_iload C d_Md_latest_55 rfl (z_pc (pc' := 57) rfl ?_)
        refine z_if_eq (tgt := 86) C d_Md_latest_57 (by decide) (fun _ => ?_) (fun c8 => absurd c8 (by decide))
        refine z_iinc C d_Md_latest_86 rfl (by decide) (z_pl (pc' := 89) (L' := [some (zv n0 a0), some (zi a1), some (zi a2), some (zi a3), some (zi a4), some (zi v5), some (zi (zadd v6 1)), some (zi 0)]) rfl rfl ?_)
        refine z_goto (tgt := 6) C d_Md_latest_89 (by decide) ?_
        exact z_sub2 (ih _ _ _ hf) (And.intro rfl (And.intro rfl (And.intro rfl (And.intro rfl (And.intro rfl (And.intro rfl (And.intro rfl trivial)))))))
      · have hf := zneg c7 hf
        refine z_aload_n C d_Md_latest_26 rfl (z_pc (pc' := 27) rfl ?_)
        obtain ⟨x9, h10, hf⟩ := zbind hf
        refine z_getr C fl_Md_7 rfl h10 d_Md_latest_27 (z_pc (pc' := 30) rfl ?_)
        refine z_iload C d_Md_latest_30 rfl (z_pc (pc' := 32) rfl ?_)
        obtain ⟨x11, h12, hf⟩ := zbind hf
        refine z_iald C h12 d_Md_latest_32 (z_pc (pc' := 33) rfl ?_)
        refine z_iload C d_Md_latest_33 rfl (z_pc (pc' := 35) rfl ?_)
        refine z_icmp_ne (tgt := 52) C d_Md_latest_35 (by decide) (fun c13 => ?_) (fun c13 => z_pc (pc' := 38) rfl ?_)
        · have hf := zneg c13 hf
          refine z_iconst C d_Md_latest_52 (z_pc (pc' := 53) rfl ?_)
          refine z_istore C d_Md_latest_53 (by decide) (z_pl (pc' := 55) (L' := [some (zv n0 a0), some (zi a1), some (zi a2), some (zi a3), some (zi a4), some (zi v5), some (zi v6), some (zi 0)]) rfl rfl ?_)
          refine z_iload C d_Md_latest_55 rfl (z_pc (pc' := 57) rfl ?_)
          refine z_if_eq (tgt := 86) C d_Md_latest_57 (by decide) (fun _ => ?_) (fun c14 => absurd c14 (by decide))
          refine z_iinc C d_Md_latest_86 rfl (by decide) (z_pl (pc' := 89) (L' := [some (zv n0 a0), some (zi a1), some (zi a2), some (zi a3), some (zi a4), some (zi v5), some (zi (zadd v6 1)), some (zi 0)]) rfl rfl ?_)
          refine z_goto (tgt := 6) C d_Md_latest_89 (by decide) ?_
          exact z_sub2 (ih _ _ _ hf) (And.intro rfl (And.intro rfl (And.intro rfl (And.intro rfl (And.intro rfl (And.intro rfl (And.intro rfl trivial)))))))
        · have hf := zpos c13 hf
          refine z_aload_n C d_Md_latest_38 rfl (z_pc (pc' := 39) rfl ?_)
          refine z_iload C d_Md_latest_39 rfl (z_pc (pc' := 41) rfl ?_)
          refine z_iload_n C d_Md_latest_41 rfl (z_pc (pc' := 42) rfl ?_)
          obtain ⟨x17, M16, h15, hf⟩ := zb2_inv hf
          refine z_callV C [zi v6, zi a3] [] kv_Md_172 (c_Md_isSeen D n0 l h15) (e_Md_isSeen h15) ⟨(Nat.le_of_ble_eq_true rfl), (Nat.le_of_ble_eq_true rfl)⟩ (Nat.le_of_ble_eq_true rfl) ⟨(Nat.le_of_ble_eq_true rfl), (Nat.le_of_ble_eq_true rfl)⟩ d_Md_latest_42 (z_pc (pc' := 45) rfl ?_)
          refine z_if_eq (tgt := 52) C d_Md_latest_45 (by decide) (fun c18 => ?_) (fun c18 => z_pc (pc' := 48) rfl ?_)
          · have hf := zpos c18 hf
            refine z_iconst C d_Md_latest_52 (z_pc (pc' := 53) rfl ?_)
            refine z_istore C d_Md_latest_53 (by decide) (z_pl (pc' := 55) (L' := [some (zv n0 a0), some (zi a1), some (zi a2), some (zi a3), some (zi a4), some (zi v5), some (zi v6), some (zi 0)]) rfl rfl ?_)
            refine z_iload C d_Md_latest_55 rfl (z_pc (pc' := 57) rfl ?_)
            refine z_if_eq (tgt := 86) C d_Md_latest_57 (by decide) (fun _ => ?_) (fun c19 => absurd c19 (by decide))
            refine z_iinc C d_Md_latest_86 rfl (by decide) (z_pl (pc' := 89) (L' := [some (zv n0 a0), some (zi a1), some (zi a2), some (zi a3), some (zi a4), some (zi v5), some (zi (zadd v6 1)), some (zi 0)]) rfl rfl ?_)
            refine z_goto (tgt := 6) C d_Md_latest_89 (by decide) ?_
            exact z_sub2 (ih _ _ _ hf) (And.intro rfl (And.intro rfl (And.intro rfl (And.intro rfl (And.intro rfl (And.intro rfl (And.intro rfl trivial)))))))
          · have hf := zneg c18 hf
            refine z_iconst C d_Md_latest_48 (z_pc (pc' := 49) rfl ?_)
            refine z_goto (tgt := 53) C d_Md_latest_49 (by decide) ?_
            refine z_istore C d_Md_latest_53 (by decide) (z_pl (pc' := 55) (L' := [some (zv n0 a0), some (zi a1), some (zi a2), some (zi a3), some (zi a4), some (zi v5), some (zi v6), some (zi 1)]) rfl rfl ?_)
            refine z_iload C d_Md_latest_55 rfl (z_pc (pc' := 57) rfl ?_)
            refine z_if_eq (tgt := 86) C d_Md_latest_57 (by decide) (fun c20 => absurd c20 (by decide)) (fun _ => z_pc (pc' := 60) rfl ?_)
            refine z_iload C d_Md_latest_60 rfl (z_pc (pc' := 62) rfl ?_)
            refine z_if_lt (tgt := 82) C d_Md_latest_62 (by decide) (fun c21 => ?_) (fun c21 => z_pc (pc' := 65) rfl ?_)
            · have hf := zpos c21 hf
              refine z_iload C d_Md_latest_82 rfl (z_pc (pc' := 84) rfl ?_)
              refine z_istore C d_Md_latest_84 (by decide) (z_pl (pc' := 86) (L' := [some (zv n0 a0), some (zi a1), some (zi a2), some (zi a3), some (zi a4), some (zi v6), some (zi v6), some (zi 1)]) rfl rfl ?_)
              refine z_iinc C d_Md_latest_86 rfl (by decide) (z_pl (pc' := 89) (L' := [some (zv n0 a0), some (zi a1), some (zi a2), some (zi a3), some (zi a4), some (zi v6), some (zi (zadd v6 1)), some (zi 1)]) rfl rfl ?_)
              refine z_goto (tgt := 6) C d_Md_latest_89 (by decide) ?_
              exact z_sub2 (ih _ _ _ hf) (And.intro rfl (And.intro rfl (And.intro rfl (And.intro rfl (And.intro rfl (And.intro rfl (And.intro rfl trivial)))))))
            · have hf := zneg c21 hf
              refine z_aload_n C d_Md_latest_65 rfl (z_pc (pc' := 66) rfl ?_)
              obtain ⟨x22, h23, hf⟩ := zbind hf
              refine z_getr C fl_Md_13 rfl h23 d_Md_latest_66 (z_pc (pc' := 69) rfl ?_)
              refine z_iload C d_Md_latest_69 rfl (z_pc (pc' := 71) rfl ?_)
              obtain ⟨x24, h25, hf⟩ := zbind hf
              refine z_iald C h25 d_Md_latest_71 (z_pc (pc' := 72) rfl ?_)
              refine z_aload_n C d_Md_latest_72 rfl (z_pc (pc' := 73) rfl ?_)
              obtain ⟨x26, h27, hf⟩ := zbind hf
              refine z_getr C fl_Md_13 rfl h27 d_Md_latest_73 (z_pc (pc' := 76) rfl ?_)
              refine z_iload C d_Md_latest_76 rfl (z_pc (pc' := 78) rfl ?_)
              obtain ⟨x28, h29, hf⟩ := zbind hf
              refine z_iald C h29 d_Md_latest_78 (z_pc (pc' := 79) rfl ?_)
              refine z_icmp_le (tgt := 86) C d_Md_latest_79 (by decide) (fun c30 => ?_) (fun c30 => z_pc (pc' := 82) rfl ?_)
              · have hf := zpos c30 hf
                refine z_iinc C d_Md_latest_86 rfl (by decide) (z_pl (pc' := 89) (L' := [some (zv n0 a0), some (zi a1), some (zi a2), some (zi a3), some (zi a4), some (zi v5), some (zi (zadd v6 1)), some (zi 1)]) rfl rfl ?_)
                refine z_goto (tgt := 6) C d_Md_latest_89 (by decide) ?_
                exact z_sub2 (ih _ _ _ hf) (And.intro rfl (And.intro rfl (And.intro rfl (And.intro rfl (And.intro rfl (And.intro rfl (And.intro rfl trivial)))))))
              · have hf := zneg c30 hf
                refine z_iload C d_Md_latest_82 rfl (z_pc (pc' := 84) rfl ?_)
                refine z_istore C d_Md_latest_84 (by decide) (z_pl (pc' := 86) (L' := [some (zv n0 a0), some (zi a1), some (zi a2), some (zi a3), some (zi a4), some (zi v6), some (zi v6), some (zi 1)]) rfl rfl ?_)
                refine z_iinc C d_Md_latest_86 rfl (by decide) (z_pl (pc' := 89) (L' := [some (zv n0 a0), some (zi a1), some (zi a2), some (zi a3), some (zi a4), some (zi v6), some (zi (zadd v6 1)), some (zi 1)]) rfl rfl ?_)
                refine z_goto (tgt := 6) C d_Md_latest_89 (by decide) ?_
                exact z_sub2 (ih _ _ _ hf) (And.intro rfl (And.intro rfl (And.intro rfl (And.intro rfl (And.intro rfl (And.intro rfl (And.intro rfl trivial)))))))
theorem e_Md_latest {a0 : Nat} {a1 : Int} {a2 : Int} {a3 : Int} {a4 : Int} {M : zHp} {q : Int × zHp} (hf : f_Md_latest a0 a1 a2 a3 a4 M = some q) : zk M a0 = 8 := by
  unfold f_Md_latest at hf
  exact (zif hf).1
set_option maxHeartbeats 4000000 in
set_option maxRecDepth 100000 in
theorem c_Md_latest (D : va_G) (n0 : Nat) (l : Launch) {a0 : Nat} {a1 : Int} {a2 : Int} {a3 : Int} {a4 : Int} {M : zHp} {r : Int} {M' : zHp} (hf : f_Md_latest a0 a1 a2 a3 a4 M = some (r, M')) : zM D n0 l y_Md_latest b_Md_latest 8 (some .int) 2 44 0 0 [zv n0 a0, zi a1, zi a2, zi a3, zi a4] M (some (zi r)) M' := by
  refine zM.ofZ (by decide) (zcr (zci (zci (zci (zci zcn))))) (Nat.le_of_ble_eq_true rfl) ?_
  intro p e s m below meth c C hr hnm
  have C : zC D n0 p s m meth c b_Md_latest 8 "LayerVaultModel" := C
  refine z_eqL (L' := [some (zv n0 a0), some (zi a1), some (zi a2), some (zi a3), some (zi a4), none, none, none]) rfl ?_
  unfold f_Md_latest at hf
  have hf := (zif hf).2
  refine z_iconst C d_Md_latest_0 (z_pc (pc' := 1) rfl ?_)
  refine z_istore C d_Md_latest_1 (by decide) (z_pl (pc' := 3) (L' := [some (zv n0 a0), some (zi a1), some (zi a2), some (zi a3), some (zi a4), some (zi (-1)), none, none]) rfl rfl ?_)
  refine z_iconst C d_Md_latest_3 (z_pc (pc' := 4) rfl ?_)
  refine z_istore C d_Md_latest_4 (by decide) (z_pl (pc' := 6) (L' := [some (zv n0 a0), some (zi a1), some (zi a2), some (zi a3), some (zi a4), some (zi (-1)), some (zi 0), none]) rfl rfl ?_)
  refine z_sub2 (w_Md_latest_L6 C hr ?_ _ _ _ _ hf) (And.intro rfl (And.intro rfl (And.intro rfl (And.intro rfl (And.intro rfl (And.intro rfl (And.intro rfl trivial)))))))
  intro v31 M32 hf
  refine z_iload C d_Md_latest_92 rfl (z_pc (pc' := 94) rfl ?_)
  exact z_iret C hr (Nat.le_of_ble_eq_true rfl) (Nat.le_of_ble_eq_true rfl) d_Md_latest_94 hf
set_option maxHeartbeats 4000000 in
set_option maxRecDepth 100000 in
theorem w_Md_filter_L5 {D : va_G} {n0 : Nat} {l : Launch} {p : Program} {e : Env} {s : State} {m : MethodId} {args : Array Value} {below : List Frame} {meth : Method} {c : Code} {a0 : Nat} {a1 : Int} {a2 : Int} {r : Int} {M' : zHp} {κ : Int → zHp → Option (Int × zHp)} (C : zC D n0 p s m meth c b_Md_filter 5 "LayerVaultModel") (hr : meth.sig.returnType = (some .int))
    (hκ : ∀ (u3 : Int) (M1 : zHp), κ u3 M1 = some (r, M') → zZ D n0 p l e { frames := 2, cells := 0, slots := 0, locals := 44 } s m args below meth c 5 0 0 (MQ below (zQc D n0 (some (zi r)) M') args s 0 0 (fun q => n0 ≤ q)) 69 [none, none, none, some (zi u3), none] [] M1) :
    ∀ (n : Nat) (v3 : Int) (v4 : Int) (M : zHp), f_Md_filter_L5 κ a0 a1 a2 n v3 v4 M = some (r, M') → zZ D n0 p l e { frames := 2, cells := 0, slots := 0, locals := 44 } s m args below meth c 5 0 0 (MQ below (zQc D n0 (some (zi r)) M') args s 0 0 (fun q => n0 ≤ q)) 5 [some (zv n0 a0), some (zi a1), some (zi a2), some (zi v3), some (zi v4)] [] M := by
  intro n
  induction n with
  | zero =>
    intro v3 v4 M hf
    exact absurd hf (by unfold f_Md_filter_L5; simp)
  | succ n ih =>
    intro v3 v4 M hf
    unfold f_Md_filter_L5 at hf
    refine z_iload C d_Md_filter_5 rfl (z_pc (pc' := 7) rfl ?_)
    refine z_aload_n C d_Md_filter_7 rfl (z_pc (pc' := 8) rfl ?_)
    obtain ⟨x1, h2, hf⟩ := zbind hf
    refine z_geti C fl_Md_75 h2 d_Md_filter_8 (z_pc (pc' := 11) rfl ?_)
    refine z_icmp_ge (tgt := 69) C d_Md_filter_11 (by decide) (fun c3 => ?_) (fun c3 => z_pc (pc' := 14) rfl ?_)
    · have hf := zpos c3 hf
      exact z_sub2 (hκ _ _ hf) (And.intro rfl trivial)
    · have hf := zneg c3 hf
      refine z_aload_n C d_Md_filter_14 rfl (z_pc (pc' := 15) rfl ?_)
      refine z_iload C d_Md_filter_15 rfl (z_pc (pc' := 17) rfl ?_)
      refine z_iload_n C d_Md_filter_17 rfl (z_pc (pc' := 18) rfl ?_)
      refine z_iload_n C d_Md_filter_18 rfl (z_pc (pc' := 19) rfl ?_)
      obtain ⟨x6, M5, h4, hf⟩ := zb2_inv hf
      refine z_callV C [zi v4, zi a1, zi a2] [] kv_Md_168 (c_Md_lies D n0 l h4) (e_Md_lies h4) ⟨(Nat.le_of_ble_eq_true rfl), (Nat.le_of_ble_eq_true rfl)⟩ (Nat.le_of_ble_eq_true rfl) ⟨(Nat.le_of_ble_eq_true rfl), (Nat.le_of_ble_eq_true rfl)⟩ d_Md_filter_19 (z_pc (pc' := 22) rfl ?_)
      refine z_if_eq (tgt := 63) C d_Md_filter_22 (by decide) (fun c7 => ?_) (fun c7 => z_pc (pc' := 25) rfl ?_)
      · have hf := zpos c7 hf
        refine z_iinc C d_Md_filter_63 rfl (by decide) (z_pl (pc' := 66) (L' := [some (zv n0 a0), some (zi a1), some (zi a2), some (zi v3), some (zi (zadd v4 1))]) rfl rfl ?_)
        refine z_goto (tgt := 5) C d_Md_filter_66 (by decide) ?_
        exact z_sub2 (ih _ _ _ hf) (And.intro rfl (And.intro rfl (And.intro rfl (And.intro rfl (And.intro rfl trivial)))))
      · have hf := zneg c7 hf
        refine z_iload_n C d_Md_filter_25 rfl (z_pc (pc' := 26) rfl ?_)
        refine z_iconst C d_Md_filter_26 (z_pc (pc' := 27) rfl ?_)
        refine z_iconst C d_Md_filter_27 (z_pc (pc' := 28) rfl ?_)
        refine z_aload_n C d_Md_filter_28 rfl (z_pc (pc' := 29) rfl ?_)
        obtain ⟨x8, h9, hf⟩ := zbind hf
        refine z_getr C fl_Md_7 rfl h9 d_Md_filter_29 (z_pc (pc' := 32) rfl ?_)
        refine z_iload C d_Md_filter_32 rfl (z_pc (pc' := 34) rfl ?_)
        obtain ⟨x10, h11, hf⟩ := zbind hf
        refine z_iald C h11 d_Md_filter_34 (z_pc (pc' := 35) rfl ?_)
        refine z_imul C d_Md_filter_35 (z_pc (pc' := 36) rfl ?_)
        refine z_iconst C d_Md_filter_36 (z_pc (pc' := 37) rfl ?_)
        refine z_iadd C d_Md_filter_37 (z_pc (pc' := 38) rfl ?_)
        refine z_bipush C d_Md_filter_38 (by decide) (z_pc (pc' := 40) rfl ?_)
        refine z_irem C (by decide) d_Md_filter_40 (z_pc (pc' := 41) rfl ?_)
        refine z_ishl C d_Md_filter_41 (z_pc (pc' := 42) rfl ?_)
        refine z_ior C d_Md_filter_42 (z_pc (pc' := 43) rfl ?_)
        refine z_iconst C d_Md_filter_43 (z_pc (pc' := 44) rfl ?_)
        refine z_bipush C d_Md_filter_44 (by decide) (z_pc (pc' := 46) rfl ?_)
        refine z_aload_n C d_Md_filter_46 rfl (z_pc (pc' := 47) rfl ?_)
        obtain ⟨x12, h13, hf⟩ := zbind hf
        refine z_getr C fl_Md_7 rfl h13 d_Md_filter_47 (z_pc (pc' := 50) rfl ?_)
        refine z_iload C d_Md_filter_50 rfl (z_pc (pc' := 52) rfl ?_)
        obtain ⟨x14, h15, hf⟩ := zbind hf
        refine z_iald C h15 d_Md_filter_52 (z_pc (pc' := 53) rfl ?_)
        refine z_imul C d_Md_filter_53 (z_pc (pc' := 54) rfl ?_)
        refine z_bipush C d_Md_filter_54 (by decide) (z_pc (pc' := 56) rfl ?_)
        refine z_iadd C d_Md_filter_56 (z_pc (pc' := 57) rfl ?_)
        refine z_bipush C d_Md_filter_57 (by decide) (z_pc (pc' := 59) rfl ?_)
        refine z_irem C (by decide) d_Md_filter_59 (z_pc (pc' := 60) rfl ?_)
        refine z_ishl C d_Md_filter_60 (z_pc (pc' := 61) rfl ?_)
        refine z_ior C d_Md_filter_61 (z_pc (pc' := 62) rfl ?_)
        refine z_istore_n C d_Md_filter_62 (by decide) (z_pl (pc' := 63) (L' := [some (zv n0 a0), some (zi a1), some (zi a2), some (zi (zor (zor v3 (zshl 1 (zrem (zadd (zmul 5 x10) 1) 32))) (zshl 1 (zrem (zadd (zmul 11 x14) 7) 32)))), some (zi v4)]) rfl rfl ?_)
        refine z_iinc C d_Md_filter_63 rfl (by decide) (z_pl (pc' := 66) (L' := [some (zv n0 a0), some (zi a1), some (zi a2), some (zi (zor (zor v3 (zshl 1 (zrem (zadd (zmul 5 x10) 1) 32))) (zshl 1 (zrem (zadd (zmul 11 x14) 7) 32)))), some (zi (zadd v4 1))]) rfl rfl ?_)
        refine z_goto (tgt := 5) C d_Md_filter_66 (by decide) ?_
        exact z_sub2 (ih _ _ _ hf) (And.intro rfl (And.intro rfl (And.intro rfl (And.intro rfl (And.intro rfl trivial)))))
theorem e_Md_filter {a0 : Nat} {a1 : Int} {a2 : Int} {M : zHp} {q : Int × zHp} (hf : f_Md_filter a0 a1 a2 M = some q) : zk M a0 = 8 := by
  unfold f_Md_filter at hf
  exact (zif hf).1
set_option maxHeartbeats 4000000 in
set_option maxRecDepth 100000 in
theorem c_Md_filter (D : va_G) (n0 : Nat) (l : Launch) {a0 : Nat} {a1 : Int} {a2 : Int} {M : zHp} {r : Int} {M' : zHp} (hf : f_Md_filter a0 a1 a2 M = some (r, M')) : zM D n0 l y_Md_filter b_Md_filter 5 (some .int) 2 44 0 0 [zv n0 a0, zi a1, zi a2] M (some (zi r)) M' := by
  refine zM.ofZ (by decide) (zcr (zci (zci zcn))) (Nat.le_of_ble_eq_true rfl) ?_
  intro p e s m below meth c C hr hnm
  have C : zC D n0 p s m meth c b_Md_filter 5 "LayerVaultModel" := C
  refine z_eqL (L' := [some (zv n0 a0), some (zi a1), some (zi a2), none, none]) rfl ?_
  unfold f_Md_filter at hf
  have hf := (zif hf).2
  refine z_iconst C d_Md_filter_0 (z_pc (pc' := 1) rfl ?_)
  refine z_istore_n C d_Md_filter_1 (by decide) (z_pl (pc' := 2) (L' := [some (zv n0 a0), some (zi a1), some (zi a2), some (zi 0), none]) rfl rfl ?_)
  refine z_iconst C d_Md_filter_2 (z_pc (pc' := 3) rfl ?_)
  refine z_istore C d_Md_filter_3 (by decide) (z_pl (pc' := 5) (L' := [some (zv n0 a0), some (zi a1), some (zi a2), some (zi 0), some (zi 0)]) rfl rfl ?_)
  refine z_sub2 (w_Md_filter_L5 C hr ?_ _ _ _ _ hf) (And.intro rfl (And.intro rfl (And.intro rfl (And.intro rfl (And.intro rfl trivial)))))
  intro v16 M17 hf
  refine z_iload_n C d_Md_filter_69 rfl (z_pc (pc' := 70) rfl ?_)
  exact z_iret C hr (Nat.le_of_ble_eq_true rfl) (Nat.le_of_ble_eq_true rfl) d_Md_filter_70 hf
set_option maxHeartbeats 4000000 in
set_option maxRecDepth 100000 in
theorem w_Md_bound_L6 {D : va_G} {n0 : Nat} {l : Launch} {p : Program} {e : Env} {s : State} {m : MethodId} {args : Array Value} {below : List Frame} {meth : Method} {c : Code} {a0 : Nat} {a1 : Int} {a2 : Int} {a3 : Int} {r : Int} {M' : zHp} {κ : Int → zHp → Option (Int × zHp)} (C : zC D n0 p s m meth c b_Md_bound 6 "LayerVaultModel") (hr : meth.sig.returnType = (some .int))
    (hκ : ∀ (u4 : Int) (M1 : zHp), κ u4 M1 = some (r, M') → zZ D n0 p l e { frames := 2, cells := 0, slots := 0, locals := 44 } s m args below meth c 6 0 0 (MQ below (zQc D n0 (some (zi r)) M') args s 0 0 (fun q => n0 ≤ q)) 85 [none, none, none, none, some (zi u4), none] [] M1) :
    ∀ (n : Nat) (v4 : Int) (v5 : Int) (M : zHp), f_Md_bound_L6 κ a0 a1 a2 a3 n v4 v5 M = some (r, M') → zZ D n0 p l e { frames := 2, cells := 0, slots := 0, locals := 44 } s m args below meth c 6 0 0 (MQ below (zQc D n0 (some (zi r)) M') args s 0 0 (fun q => n0 ≤ q)) 6 [some (zv n0 a0), some (zi a1), some (zi a2), some (zi a3), some (zi v4), some (zi v5)] [] M := by
  intro n
  induction n with
  | zero =>
    intro v4 v5 M hf
    exact absurd hf (by unfold f_Md_bound_L6; simp)
  | succ n ih =>
    intro v4 v5 M hf
    unfold f_Md_bound_L6 at hf
    refine z_iload C d_Md_bound_6 rfl (z_pc (pc' := 8) rfl ?_)
    refine z_aload_n C d_Md_bound_8 rfl (z_pc (pc' := 9) rfl ?_)
    obtain ⟨x1, h2, hf⟩ := zbind hf
    refine z_geti C fl_Md_75 h2 d_Md_bound_9 (z_pc (pc' := 12) rfl ?_)
    refine z_icmp_ge (tgt := 85) C d_Md_bound_12 (by decide) (fun c3 => ?_) (fun c3 => z_pc (pc' := 15) rfl ?_)
    · have hf := zpos c3 hf
      exact z_sub2 (hκ _ _ hf) (And.intro rfl trivial)
    · have hf := zneg c3 hf
      refine z_aload_n C d_Md_bound_15 rfl (z_pc (pc' := 16) rfl ?_)
      refine z_iload C d_Md_bound_16 rfl (z_pc (pc' := 18) rfl ?_)
      refine z_iload_n C d_Md_bound_18 rfl (z_pc (pc' := 19) rfl ?_)
      refine z_iload_n C d_Md_bound_19 rfl (z_pc (pc' := 20) rfl ?_)
      obtain ⟨x6, M5, h4, hf⟩ := zb2_inv hf
      refine z_callV C [zi v5, zi a1, zi a2] [] kv_Md_168 (c_Md_lies D n0 l h4) (e_Md_lies h4) ⟨(Nat.le_of_ble_eq_true rfl), (Nat.le_of_ble_eq_true rfl)⟩ (Nat.le_of_ble_eq_true rfl) ⟨(Nat.le_of_ble_eq_true rfl), (Nat.le_of_ble_eq_true rfl)⟩ d_Md_bound_20 (z_pc (pc' := 23) rfl ?_)
      refine z_if_ne (tgt := 29) C d_Md_bound_23 (by decide) (fun c7 => ?_) (fun c7 => z_pc (pc' := 26) rfl ?_)
      · have hf := zneg c7 hf
        refine z_iload C d_Md_bound_29 rfl (z_pc (pc' := 31) rfl ?_)
        refine z_if_lt (tgt := 65) C d_Md_bound_31 (by decide) (fun c8 => ?_) (fun c8 => z_pc (pc' := 34) rfl ?_)
        · have hf := zpos c8 hf
          refine z_aload_n C d_Md_bound_65 rfl (z_pc (pc' := 66) rfl ?_)
          obtain ⟨x9, h10, hf⟩ := zbind hf
          refine z_getr C fl_Md_7 rfl h10 d_Md_bound_66 (z_pc (pc' := 69) rfl ?_)
          refine z_iload C d_Md_bound_69 rfl (z_pc (pc' := 71) rfl ?_)
          obtain ⟨x11, h12, hf⟩ := zbind hf
          refine z_iald C h12 d_Md_bound_71 (z_pc (pc' := 72) rfl ?_)
          refine z_goto (tgt := 77) C d_Md_bound_72 (by decide) ?_
          refine z_istore C d_Md_bound_77 (by decide) (z_pl (pc' := 79) (L' := [some (zv n0 a0), some (zi a1), some (zi a2), some (zi a3), some (zi x11), some (zi v5)]) rfl rfl ?_)
          refine z_iinc C d_Md_bound_79 rfl (by decide) (z_pl (pc' := 82) (L' := [some (zv n0 a0), some (zi a1), some (zi a2), some (zi a3), some (zi x11), some (zi (zadd v5 1))]) rfl rfl ?_)
          refine z_goto (tgt := 6) C d_Md_bound_82 (by decide) ?_
          exact z_sub2 (ih _ _ _ hf) (And.intro rfl (And.intro rfl (And.intro rfl (And.intro rfl (And.intro rfl (And.intro rfl trivial))))))
        · have hf := zneg c8 hf
          refine z_iload_n C d_Md_bound_34 rfl (z_pc (pc' := 35) rfl ?_)
          refine z_if_eq (tgt := 53) C d_Md_bound_35 (by decide) (fun c13 => ?_) (fun c13 => z_pc (pc' := 38) rfl ?_)
          · have hf := zpos c13 hf
            refine z_aload_n C d_Md_bound_53 rfl (z_pc (pc' := 54) rfl ?_)
            obtain ⟨x14, h15, hf⟩ := zbind hf
            refine z_getr C fl_Md_7 rfl h15 d_Md_bound_54 (z_pc (pc' := 57) rfl ?_)
            refine z_iload C d_Md_bound_57 rfl (z_pc (pc' := 59) rfl ?_)
            obtain ⟨x16, h17, hf⟩ := zbind hf
            refine z_iald C h17 d_Md_bound_59 (z_pc (pc' := 60) rfl ?_)
            refine z_iload C d_Md_bound_60 rfl (z_pc (pc' := 62) rfl ?_)
            refine z_icmp_ge (tgt := 75) C d_Md_bound_62 (by decide) (fun c18 => ?_) (fun c18 => z_pc (pc' := 65) rfl ?_)
            · have hf := zpos c18 hf
              refine z_iload C d_Md_bound_75 rfl (z_pc (pc' := 77) rfl ?_)
              refine z_istore C d_Md_bound_77 (by decide) (z_pl (pc' := 79) (L' := [some (zv n0 a0), some (zi a1), some (zi a2), some (zi a3), some (zi v4), some (zi v5)]) rfl rfl ?_)
              refine z_iinc C d_Md_bound_79 rfl (by decide) (z_pl (pc' := 82) (L' := [some (zv n0 a0), some (zi a1), some (zi a2), some (zi a3), some (zi v4), some (zi (zadd v5 1))]) rfl rfl ?_)
              refine z_goto (tgt := 6) C d_Md_bound_82 (by decide) ?_
              exact z_sub2 (ih _ _ _ hf) (And.intro rfl (And.intro rfl (And.intro rfl (And.intro rfl (And.intro rfl (And.intro rfl trivial))))))
            · have hf := zneg c18 hf
              refine z_aload_n C d_Md_bound_65 rfl (z_pc (pc' := 66) rfl ?_)
              obtain ⟨x19, h20, hf⟩ := zbind hf
              refine z_getr C fl_Md_7 rfl h20 d_Md_bound_66 (z_pc (pc' := 69) rfl ?_)
              refine z_iload C d_Md_bound_69 rfl (z_pc (pc' := 71) rfl ?_)
              obtain ⟨x21, h22, hf⟩ := zbind hf
              refine z_iald C h22 d_Md_bound_71 (z_pc (pc' := 72) rfl ?_)
              refine z_goto (tgt := 77) C d_Md_bound_72 (by decide) ?_
              refine z_istore C d_Md_bound_77 (by decide) (z_pl (pc' := 79) (L' := [some (zv n0 a0), some (zi a1), some (zi a2), some (zi a3), some (zi x21), some (zi v5)]) rfl rfl ?_)
              refine z_iinc C d_Md_bound_79 rfl (by decide) (z_pl (pc' := 82) (L' := [some (zv n0 a0), some (zi a1), some (zi a2), some (zi a3), some (zi x21), some (zi (zadd v5 1))]) rfl rfl ?_)
              refine z_goto (tgt := 6) C d_Md_bound_82 (by decide) ?_
              exact z_sub2 (ih _ _ _ hf) (And.intro rfl (And.intro rfl (And.intro rfl (And.intro rfl (And.intro rfl (And.intro rfl trivial))))))
          · have hf := zneg c13 hf
            refine z_aload_n C d_Md_bound_38 rfl (z_pc (pc' := 39) rfl ?_)
            obtain ⟨x23, h24, hf⟩ := zbind hf
            refine z_getr C fl_Md_7 rfl h24 d_Md_bound_39 (z_pc (pc' := 42) rfl ?_)
            refine z_iload C d_Md_bound_42 rfl (z_pc (pc' := 44) rfl ?_)
            obtain ⟨x25, h26, hf⟩ := zbind hf
            refine z_iald C h26 d_Md_bound_44 (z_pc (pc' := 45) rfl ?_)
            refine z_iload C d_Md_bound_45 rfl (z_pc (pc' := 47) rfl ?_)
            refine z_icmp_le (tgt := 75) C d_Md_bound_47 (by decide) (fun c27 => ?_) (fun c27 => z_pc (pc' := 50) rfl ?_)
            · have hf := zpos c27 hf
              refine z_iload C d_Md_bound_75 rfl (z_pc (pc' := 77) rfl ?_)
              refine z_istore C d_Md_bound_77 (by decide) (z_pl (pc' := 79) (L' := [some (zv n0 a0), some (zi a1), some (zi a2), some (zi a3), some (zi v4), some (zi v5)]) rfl rfl ?_)
              refine z_iinc C d_Md_bound_79 rfl (by decide) (z_pl (pc' := 82) (L' := [some (zv n0 a0), some (zi a1), some (zi a2), some (zi a3), some (zi v4), some (zi (zadd v5 1))]) rfl rfl ?_)
              refine z_goto (tgt := 6) C d_Md_bound_82 (by decide) ?_
              exact z_sub2 (ih _ _ _ hf) (And.intro rfl (And.intro rfl (And.intro rfl (And.intro rfl (And.intro rfl (And.intro rfl trivial))))))
            · have hf := zneg c27 hf
              refine z_goto (tgt := 65) C d_Md_bound_50 (by decide) ?_
              refine z_aload_n C d_Md_bound_65 rfl (z_pc (pc' := 66) rfl ?_)
              obtain ⟨x28, h29, hf⟩ := zbind hf
              refine z_getr C fl_Md_7 rfl h29 d_Md_bound_66 (z_pc (pc' := 69) rfl ?_)
              refine z_iload C d_Md_bound_69 rfl (z_pc (pc' := 71) rfl ?_)
              obtain ⟨x30, h31, hf⟩ := zbind hf
              refine z_iald C h31 d_Md_bound_71 (z_pc (pc' := 72) rfl ?_)
              refine z_goto (tgt := 77) C d_Md_bound_72 (by decide) ?_
              refine z_istore C d_Md_bound_77 (by decide) (z_pl (pc' := 79) (L' := [some (zv n0 a0), some (zi a1), some (zi a2), some (zi a3), some (zi x30), some (zi v5)]) rfl rfl ?_)
              refine z_iinc C d_Md_bound_79 rfl (by decide) (z_pl (pc' := 82) (L' := [some (zv n0 a0), some (zi a1), some (zi a2), some (zi a3), some (zi x30), some (zi (zadd v5 1))]) rfl rfl ?_)
              refine z_goto (tgt := 6) C d_Md_bound_82 (by decide) ?_
              exact z_sub2 (ih _ _ _ hf) (And.intro rfl (And.intro rfl (And.intro rfl (And.intro rfl (And.intro rfl (And.intro rfl trivial))))))
      · have hf := zpos c7 hf
        refine z_goto (tgt := 79) C d_Md_bound_26 (by decide) ?_
        refine z_iinc C d_Md_bound_79 rfl (by decide) (z_pl (pc' := 82) (L' := [some (zv n0 a0), some (zi a1), some (zi a2), some (zi a3), some (zi v4), some (zi (zadd v5 1))]) rfl rfl ?_)
        refine z_goto (tgt := 6) C d_Md_bound_82 (by decide) ?_
        exact z_sub2 (ih _ _ _ hf) (And.intro rfl (And.intro rfl (And.intro rfl (And.intro rfl (And.intro rfl (And.intro rfl trivial))))))
theorem e_Md_bound {a0 : Nat} {a1 : Int} {a2 : Int} {a3 : Int} {M : zHp} {q : Int × zHp} (hf : f_Md_bound a0 a1 a2 a3 M = some q) : zk M a0 = 8 := by
  unfold f_Md_bound at hf
  exact (zif hf).1
set_option maxHeartbeats 4000000 in
set_option maxRecDepth 100000 in
theorem c_Md_bound (D : va_G) (n0 : Nat) (l : Launch) {a0 : Nat} {a1 : Int} {a2 : Int} {a3 : Int} {M : zHp} {r : Int} {M' : zHp} (hf : f_Md_bound a0 a1 a2 a3 M = some (r, M')) : zM D n0 l y_Md_bound b_Md_bound 6 (some .int) 2 44 0 0 [zv n0 a0, zi a1, zi a2, zi a3] M (some (zi r)) M' := by
  refine zM.ofZ (by decide) (zcr (zci (zci (zci zcn)))) (Nat.le_of_ble_eq_true rfl) ?_
  intro p e s m below meth c C hr hnm
  have C : zC D n0 p s m meth c b_Md_bound 6 "LayerVaultModel" := C
  refine z_eqL (L' := [some (zv n0 a0), some (zi a1), some (zi a2), some (zi a3), none, none]) rfl ?_
  unfold f_Md_bound at hf
  have hf := (zif hf).2
  refine z_iconst C d_Md_bound_0 (z_pc (pc' := 1) rfl ?_)
  refine z_istore C d_Md_bound_1 (by decide) (z_pl (pc' := 3) (L' := [some (zv n0 a0), some (zi a1), some (zi a2), some (zi a3), some (zi (-1)), none]) rfl rfl ?_)
  refine z_iconst C d_Md_bound_3 (z_pc (pc' := 4) rfl ?_)
  refine z_istore C d_Md_bound_4 (by decide) (z_pl (pc' := 6) (L' := [some (zv n0 a0), some (zi a1), some (zi a2), some (zi a3), some (zi (-1)), some (zi 0)]) rfl rfl ?_)
  refine z_sub2 (w_Md_bound_L6 C hr ?_ _ _ _ _ hf) (And.intro rfl (And.intro rfl (And.intro rfl (And.intro rfl (And.intro rfl (And.intro rfl trivial))))))
  intro v32 M33 hf
  refine z_iload C d_Md_bound_85 rfl (z_pc (pc' := 87) rfl ?_)
  exact z_iret C hr (Nat.le_of_ble_eq_true rfl) (Nat.le_of_ble_eq_true rfl) d_Md_bound_87 hf
theorem e_Md_may {a0 : Nat} {a1 : Int} {a2 : Int} {a3 : Int} {M : zHp} {q : Int × zHp} (hf : f_Md_may a0 a1 a2 a3 M = some q) : zk M a0 = 8 := by
  unfold f_Md_may at hf
  exact (zif hf).1
set_option maxHeartbeats 4000000 in
set_option maxRecDepth 100000 in
theorem c_Md_may (D : va_G) (n0 : Nat) (l : Launch) {a0 : Nat} {a1 : Int} {a2 : Int} {a3 : Int} {M : zHp} {r : Int} {M' : zHp} (hf : f_Md_may a0 a1 a2 a3 M = some (r, M')) : zM D n0 l y_Md_may b_Md_may 6 (some .boolean) 3 69 0 0 [zv n0 a0, zi a1, zi a2, zi a3] M (some (zi r)) M' := by
  refine zM.ofZ (by decide) (zcr (zci (zci (zci zcn)))) (Nat.le_of_ble_eq_true rfl) ?_
  intro p e s m below meth c C hr hnm
  have C : zC D n0 p s m meth c b_Md_may 6 "LayerVaultModel" := C
  refine z_eqL (L' := [some (zv n0 a0), some (zi a1), some (zi a2), some (zi a3), none, none]) rfl ?_
  unfold f_Md_may at hf
  have hf := (zif hf).2
  refine z_aload_n C d_Md_may_0 rfl (z_pc (pc' := 1) rfl ?_)
  refine z_iload_n C d_Md_may_1 rfl (z_pc (pc' := 2) rfl ?_)
  refine z_iload_n C d_Md_may_2 rfl (z_pc (pc' := 3) rfl ?_)
  obtain ⟨x3, M2, h1, hf⟩ := zb2_inv hf
  refine z_callV C [zi a1, zi a2] [] kv_Md_175 (c_Md_filter D n0 l h1) (e_Md_filter h1) ⟨(Nat.le_of_ble_eq_true rfl), (Nat.le_of_ble_eq_true rfl)⟩ (Nat.le_of_ble_eq_true rfl) ⟨(Nat.le_of_ble_eq_true rfl), (Nat.le_of_ble_eq_true rfl)⟩ d_Md_may_3 (z_pc (pc' := 6) rfl ?_)
  refine z_istore C d_Md_may_6 (by decide) (z_pl (pc' := 8) (L' := [some (zv n0 a0), some (zi a1), some (zi a2), some (zi a3), some (zi x3), none]) rfl rfl ?_)
  refine z_iload C d_Md_may_8 rfl (z_pc (pc' := 10) rfl ?_)
  refine z_iconst C d_Md_may_10 (z_pc (pc' := 11) rfl ?_)
  refine z_iload_n C d_Md_may_11 rfl (z_pc (pc' := 12) rfl ?_)
  refine z_imul C d_Md_may_12 (z_pc (pc' := 13) rfl ?_)
  refine z_iconst C d_Md_may_13 (z_pc (pc' := 14) rfl ?_)
  refine z_iadd C d_Md_may_14 (z_pc (pc' := 15) rfl ?_)
  refine z_bipush C d_Md_may_15 (by decide) (z_pc (pc' := 17) rfl ?_)
  refine z_irem C (by decide) d_Md_may_17 (z_pc (pc' := 18) rfl ?_)
  refine z_ishr C d_Md_may_18 (z_pc (pc' := 19) rfl ?_)
  refine z_iconst C d_Md_may_19 (z_pc (pc' := 20) rfl ?_)
  refine z_iand C d_Md_may_20 (z_pc (pc' := 21) rfl ?_)
  refine z_iconst C d_Md_may_21 (z_pc (pc' := 22) rfl ?_)
  refine z_icmp_ne (tgt := 48) C d_Md_may_22 (by decide) (fun c4 => ?_) (fun c4 => z_pc (pc' := 25) rfl ?_)
  · have hf := zneg c4 hf
    refine z_iconst C d_Md_may_48 (z_pc (pc' := 49) rfl ?_)
    refine z_istore C d_Md_may_49 (by decide) (z_pl (pc' := 51) (L' := [some (zv n0 a0), some (zi a1), some (zi a2), some (zi a3), some (zi x3), some (zi 0)]) rfl rfl ?_)
    refine z_iload C d_Md_may_51 rfl (z_pc (pc' := 53) rfl ?_)
    refine z_if_eq (tgt := 82) C d_Md_may_53 (by decide) (fun _ => ?_) (fun c5 => absurd c5 (by decide))
    refine z_iconst C d_Md_may_82 (z_pc (pc' := 83) rfl ?_)
    exact z_zret C hr rfl (Nat.le_of_ble_eq_true rfl) (Nat.le_of_ble_eq_true rfl) d_Md_may_83 hf
  · have hf := zpos c4 hf
    refine z_iload C d_Md_may_25 rfl (z_pc (pc' := 27) rfl ?_)
    refine z_bipush C d_Md_may_27 (by decide) (z_pc (pc' := 29) rfl ?_)
    refine z_iload_n C d_Md_may_29 rfl (z_pc (pc' := 30) rfl ?_)
    refine z_imul C d_Md_may_30 (z_pc (pc' := 31) rfl ?_)
    refine z_bipush C d_Md_may_31 (by decide) (z_pc (pc' := 33) rfl ?_)
    refine z_iadd C d_Md_may_33 (z_pc (pc' := 34) rfl ?_)
    refine z_bipush C d_Md_may_34 (by decide) (z_pc (pc' := 36) rfl ?_)
    refine z_irem C (by decide) d_Md_may_36 (z_pc (pc' := 37) rfl ?_)
    refine z_ishr C d_Md_may_37 (z_pc (pc' := 38) rfl ?_)
    refine z_iconst C d_Md_may_38 (z_pc (pc' := 39) rfl ?_)
    refine z_iand C d_Md_may_39 (z_pc (pc' := 40) rfl ?_)
    refine z_iconst C d_Md_may_40 (z_pc (pc' := 41) rfl ?_)
    refine z_icmp_ne (tgt := 48) C d_Md_may_41 (by decide) (fun c6 => ?_) (fun c6 => z_pc (pc' := 44) rfl ?_)
    · have hf := zneg c6 hf
      refine z_iconst C d_Md_may_48 (z_pc (pc' := 49) rfl ?_)
      refine z_istore C d_Md_may_49 (by decide) (z_pl (pc' := 51) (L' := [some (zv n0 a0), some (zi a1), some (zi a2), some (zi a3), some (zi x3), some (zi 0)]) rfl rfl ?_)
      refine z_iload C d_Md_may_51 rfl (z_pc (pc' := 53) rfl ?_)
      refine z_if_eq (tgt := 82) C d_Md_may_53 (by decide) (fun _ => ?_) (fun c7 => absurd c7 (by decide))
      refine z_iconst C d_Md_may_82 (z_pc (pc' := 83) rfl ?_)
      exact z_zret C hr rfl (Nat.le_of_ble_eq_true rfl) (Nat.le_of_ble_eq_true rfl) d_Md_may_83 hf
    · have hf := zpos c6 hf
      refine z_iconst C d_Md_may_44 (z_pc (pc' := 45) rfl ?_)
      refine z_goto (tgt := 49) C d_Md_may_45 (by decide) ?_
      refine z_istore C d_Md_may_49 (by decide) (z_pl (pc' := 51) (L' := [some (zv n0 a0), some (zi a1), some (zi a2), some (zi a3), some (zi x3), some (zi 1)]) rfl rfl ?_)
      refine z_iload C d_Md_may_51 rfl (z_pc (pc' := 53) rfl ?_)
      refine z_if_eq (tgt := 82) C d_Md_may_53 (by decide) (fun c8 => absurd c8 (by decide)) (fun _ => z_pc (pc' := 56) rfl ?_)
      refine z_iload_n C d_Md_may_56 rfl (z_pc (pc' := 57) rfl ?_)
      refine z_aload_n C d_Md_may_57 rfl (z_pc (pc' := 58) rfl ?_)
      refine z_iload_n C d_Md_may_58 rfl (z_pc (pc' := 59) rfl ?_)
      refine z_iload_n C d_Md_may_59 rfl (z_pc (pc' := 60) rfl ?_)
      refine z_iconst C d_Md_may_60 (z_pc (pc' := 61) rfl ?_)
      obtain ⟨x11, M10, h9, hf⟩ := zb2_inv hf
      refine z_callV C [zi a1, zi a2, zi 0] [zi a3] kv_Md_179 (c_Md_bound D n0 l h9) (e_Md_bound h9) ⟨(Nat.le_of_ble_eq_true rfl), (Nat.le_of_ble_eq_true rfl)⟩ (Nat.le_of_ble_eq_true rfl) ⟨(Nat.le_of_ble_eq_true rfl), (Nat.le_of_ble_eq_true rfl)⟩ d_Md_may_61 (z_pc (pc' := 64) rfl ?_)
      refine z_icmp_lt (tgt := 82) C d_Md_may_64 (by decide) (fun c12 => ?_) (fun c12 => z_pc (pc' := 67) rfl ?_)
      · have hf := zpos c12 hf
        refine z_iconst C d_Md_may_82 (z_pc (pc' := 83) rfl ?_)
        exact z_zret C hr rfl (Nat.le_of_ble_eq_true rfl) (Nat.le_of_ble_eq_true rfl) d_Md_may_83 hf
      · have hf := zneg c12 hf
        refine z_iload_n C d_Md_may_67 rfl (z_pc (pc' := 68) rfl ?_)
        refine z_aload_n C d_Md_may_68 rfl (z_pc (pc' := 69) rfl ?_)
        refine z_iload_n C d_Md_may_69 rfl (z_pc (pc' := 70) rfl ?_)
        refine z_iload_n C d_Md_may_70 rfl (z_pc (pc' := 71) rfl ?_)
        refine z_iconst C d_Md_may_71 (z_pc (pc' := 72) rfl ?_)
        obtain ⟨x15, M14, h13, hf⟩ := zb2_inv hf
        refine z_callV C [zi a1, zi a2, zi 1] [zi a3] kv_Md_179 (c_Md_bound D n0 l h13) (e_Md_bound h13) ⟨(Nat.le_of_ble_eq_true rfl), (Nat.le_of_ble_eq_true rfl)⟩ (Nat.le_of_ble_eq_true rfl) ⟨(Nat.le_of_ble_eq_true rfl), (Nat.le_of_ble_eq_true rfl)⟩ d_Md_may_72 (z_pc (pc' := 75) rfl ?_)
        refine z_icmp_gt (tgt := 82) C d_Md_may_75 (by decide) (fun c16 => ?_) (fun c16 => z_pc (pc' := 78) rfl ?_)
        · have hf := zpos c16 hf
          refine z_iconst C d_Md_may_82 (z_pc (pc' := 83) rfl ?_)
          exact z_zret C hr rfl (Nat.le_of_ble_eq_true rfl) (Nat.le_of_ble_eq_true rfl) d_Md_may_83 hf
        · have hf := zneg c16 hf
          refine z_iconst C d_Md_may_78 (z_pc (pc' := 79) rfl ?_)
          refine z_goto (tgt := 83) C d_Md_may_79 (by decide) ?_
          exact z_zret C hr rfl (Nat.le_of_ble_eq_true rfl) (Nat.le_of_ble_eq_true rfl) d_Md_may_83 hf
set_option maxHeartbeats 4000000 in
set_option maxRecDepth 100000 in
theorem w_Md_find_L26 {D : va_G} {n0 : Nat} {l : Launch} {p : Program} {e : Env} {s : State} {m : MethodId} {args : Array Value} {below : List Frame} {meth : Method} {c : Code} {a0 : Nat} {a1 : Int} {a2 : Int} {a4 : Int} {r : Int} {M' : zHp} {κ : Int → zHp → Option (Int × zHp)} (C : zC D n0 p s m meth c b_Md_find 6 "LayerVaultModel") (hr : meth.sig.returnType = (some .int))
    (hκ : ∀ (u3 : Int) (M1 : zHp), κ u3 M1 = some (r, M') → zZ D n0 p l e { frames := 4, cells := 0, slots := 0, locals := 94 } s m args below meth c 6 0 0 (MQ below (zQc D n0 (some (zi r)) M') args s 0 0 (fun q => n0 ≤ q)) 83 [some (zv n0 a0), some (zi a1), some (zi a2), some (zi u3), some (zi a4), none] [] M1) :
    ∀ (n : Nat) (v3 : Int) (v5 : Int) (M : zHp), f_Md_find_L26 κ a0 a1 a2 a4 n v3 v5 M = some (r, M') → zZ D n0 p l e { frames := 4, cells := 0, slots := 0, locals := 94 } s m args below meth c 6 0 0 (MQ below (zQc D n0 (some (zi r)) M') args s 0 0 (fun q => n0 ≤ q)) 26 [some (zv n0 a0), some (zi a1), some (zi a2), some (zi v3), some (zi a4), some (zi v5)] [] M := by
  intro n
  induction n with
  | zero =>
    intro v3 v5 M hf
    exact absurd hf (by unfold f_Md_find_L26; simp)
  | succ n ih =>
    intro v3 v5 M hf
    unfold f_Md_find_L26 at hf
    refine z_iload C d_Md_find_26 rfl (z_pc (pc' := 28) rfl ?_)
    refine z_aload_n C d_Md_find_28 rfl (z_pc (pc' := 29) rfl ?_)
    refine z_iload C d_Md_find_29 rfl (z_pc (pc' := 31) rfl ?_)
    obtain ⟨x9, M8, h7, hf⟩ := zb2_inv hf
    refine z_callV C [zi a4] [zi v5] kv_Md_190 (c_Md_tables D n0 l h7) (e_Md_tables h7) ⟨(Nat.le_of_ble_eq_true rfl), (Nat.le_of_ble_eq_true rfl)⟩ (Nat.le_of_ble_eq_true rfl) ⟨(Nat.le_of_ble_eq_true rfl), (Nat.le_of_ble_eq_true rfl)⟩ d_Md_find_31 (z_pc (pc' := 34) rfl ?_)
    refine z_icmp_ge (tgt := 83) C d_Md_find_34 (by decide) (fun c10 => ?_) (fun c10 => z_pc (pc' := 37) rfl ?_)
    · have hf := zpos c10 hf
      exact z_sub2 (hκ _ _ hf) (And.intro rfl (And.intro rfl (And.intro rfl (And.intro rfl (And.intro rfl trivial)))))
    · have hf := zneg c10 hf
      refine z_iload_n C d_Md_find_37 rfl (z_pc (pc' := 38) rfl ?_)
      refine z_if_ge (tgt := 83) C d_Md_find_38 (by decide) (fun c11 => ?_) (fun c11 => z_pc (pc' := 41) rfl ?_)
      · have hf := zpos c11 hf
        exact z_sub2 (hκ _ _ hf) (And.intro rfl (And.intro rfl (And.intro rfl (And.intro rfl (And.intro rfl trivial)))))
      · have hf := zneg c11 hf
        refine z_aload_n C d_Md_find_41 rfl (z_pc (pc' := 42) rfl ?_)
        refine z_iload C d_Md_find_42 rfl (z_pc (pc' := 44) rfl ?_)
        refine z_iload C d_Md_find_44 rfl (z_pc (pc' := 46) rfl ?_)
        refine z_iload_n C d_Md_find_46 rfl (z_pc (pc' := 47) rfl ?_)
        obtain ⟨x14, M13, h12, hf⟩ := zb2_inv hf
        refine z_callV C [zi a4, zi v5, zi a2] [] kv_Md_193 (c_Md_may D n0 l h12) (e_Md_may h12) ⟨(Nat.le_of_ble_eq_true rfl), (Nat.le_of_ble_eq_true rfl)⟩ (Nat.le_of_ble_eq_true rfl) ⟨(Nat.le_of_ble_eq_true rfl), (Nat.le_of_ble_eq_true rfl)⟩ d_Md_find_47 (z_pc (pc' := 50) rfl ?_)
        refine z_if_ne (tgt := 56) C d_Md_find_50 (by decide) (fun c15 => ?_) (fun c15 => z_pc (pc' := 53) rfl ?_)
        · have hf := zneg c15 hf
          refine z_aload_n C d_Md_find_56 rfl (z_pc (pc' := 57) rfl ?_)
          refine z_dupr C d_Md_find_57 (z_pc (pc' := 58) rfl ?_)
          obtain ⟨x16, h17, hf⟩ := zbind hf
          refine z_geti C fl_Md_183 h17 d_Md_find_58 (z_pc (pc' := 61) rfl ?_)
          refine z_iconst C d_Md_find_61 (z_pc (pc' := 62) rfl ?_)
          refine z_iadd C d_Md_find_62 (z_pc (pc' := 63) rfl ?_)
          obtain ⟨M18, h19, hf⟩ := zbind hf
          refine z_puti C fp_Md_183 (by decide) rfl h19 d_Md_find_63 (z_pc (pc' := 66) rfl ?_)
          refine z_aload_n C d_Md_find_66 rfl (z_pc (pc' := 67) rfl ?_)
          refine z_iload C d_Md_find_67 rfl (z_pc (pc' := 69) rfl ?_)
          refine z_iload C d_Md_find_69 rfl (z_pc (pc' := 71) rfl ?_)
          refine z_iload_n C d_Md_find_71 rfl (z_pc (pc' := 72) rfl ?_)
          refine z_iload_n C d_Md_find_72 rfl (z_pc (pc' := 73) rfl ?_)
          obtain ⟨x22, M21, h20, hf⟩ := zb2_inv hf
          refine z_callV C [zi a4, zi v5, zi a1, zi a2] [] kv_Md_186 (c_Md_latest D n0 l h20) (e_Md_latest h20) ⟨(Nat.le_of_ble_eq_true rfl), (Nat.le_of_ble_eq_true rfl)⟩ (Nat.le_of_ble_eq_true rfl) ⟨(Nat.le_of_ble_eq_true rfl), (Nat.le_of_ble_eq_true rfl)⟩ d_Md_find_73 (z_pc (pc' := 76) rfl ?_)
          refine z_istore_n C d_Md_find_76 (by decide) (z_pl (pc' := 77) (L' := [some (zv n0 a0), some (zi a1), some (zi a2), some (zi x22), some (zi a4), some (zi v5)]) rfl rfl ?_)
          refine z_iinc C d_Md_find_77 rfl (by decide) (z_pl (pc' := 80) (L' := [some (zv n0 a0), some (zi a1), some (zi a2), some (zi x22), some (zi a4), some (zi (zadd v5 1))]) rfl rfl ?_)
          refine z_goto (tgt := 26) C d_Md_find_80 (by decide) ?_
          exact z_sub2 (ih _ _ _ hf) (And.intro rfl (And.intro rfl (And.intro rfl (And.intro rfl (And.intro rfl (And.intro rfl trivial))))))
        · have hf := zpos c15 hf
          refine z_goto (tgt := 77) C d_Md_find_53 (by decide) ?_
          refine z_iinc C d_Md_find_77 rfl (by decide) (z_pl (pc' := 80) (L' := [some (zv n0 a0), some (zi a1), some (zi a2), some (zi v3), some (zi a4), some (zi (zadd v5 1))]) rfl rfl ?_)
          refine z_goto (tgt := 26) C d_Md_find_80 (by decide) ?_
          exact z_sub2 (ih _ _ _ hf) (And.intro rfl (And.intro rfl (And.intro rfl (And.intro rfl (And.intro rfl (And.intro rfl trivial))))))
set_option maxHeartbeats 4000000 in
set_option maxRecDepth 100000 in
theorem w_Md_find_L17 {D : va_G} {n0 : Nat} {l : Launch} {p : Program} {e : Env} {s : State} {m : MethodId} {args : Array Value} {below : List Frame} {meth : Method} {c : Code} {a0 : Nat} {a1 : Int} {a2 : Int} {r : Int} {M' : zHp} {κ : Int → zHp → Option (Int × zHp)} (C : zC D n0 p s m meth c b_Md_find 6 "LayerVaultModel") (hr : meth.sig.returnType = (some .int))
    (hκ : ∀ (u3 : Int) (M1 : zHp), κ u3 M1 = some (r, M') → zZ D n0 p l e { frames := 4, cells := 0, slots := 0, locals := 94 } s m args below meth c 6 0 0 (MQ below (zQc D n0 (some (zi r)) M') args s 0 0 (fun q => n0 ≤ q)) 89 [none, none, none, some (zi u3), none, none] [] M1) :
    ∀ (n : Nat) (v3 : Int) (v4 : Int) (M : zHp), f_Md_find_L17 κ a0 a1 a2 n v3 v4 M = some (r, M') → zZ D n0 p l e { frames := 4, cells := 0, slots := 0, locals := 94 } s m args below meth c 6 0 0 (MQ below (zQc D n0 (some (zi r)) M') args s 0 0 (fun q => n0 ≤ q)) 17 [some (zv n0 a0), some (zi a1), some (zi a2), some (zi v3), some (zi v4), none] [] M := by
  intro n
  induction n with
  | zero =>
    intro v3 v4 M hf
    exact absurd hf (by unfold f_Md_find_L17; simp)
  | succ n ih =>
    intro v3 v4 M hf
    unfold f_Md_find_L17 at hf
    refine z_iload C d_Md_find_17 rfl (z_pc (pc' := 19) rfl ?_)
    refine z_iconst C d_Md_find_19 (z_pc (pc' := 20) rfl ?_)
    refine z_icmp_ge (tgt := 89) C d_Md_find_20 (by decide) (fun c6 => ?_) (fun c6 => z_pc (pc' := 23) rfl ?_)
    · have hf := zpos c6 hf
      exact z_sub2 (hκ _ _ hf) (And.intro rfl trivial)
    · have hf := zneg c6 hf
      refine z_iconst C d_Md_find_23 (z_pc (pc' := 24) rfl ?_)
      refine z_istore C d_Md_find_24 (by decide) (z_pl (pc' := 26) (L' := [some (zv n0 a0), some (zi a1), some (zi a2), some (zi v3), some (zi v4), some (zi 0)]) rfl rfl ?_)
      refine z_sub2 (w_Md_find_L26 C hr ?_ _ _ _ _ hf) (And.intro rfl (And.intro rfl (And.intro rfl (And.intro rfl (And.intro rfl (And.intro rfl trivial))))))
      intro v23 M24 hf
      refine z_iinc C d_Md_find_83 rfl (by decide) (z_pl (pc' := 86) (L' := [some (zv n0 a0), some (zi a1), some (zi a2), some (zi v23), some (zi (zadd v4 1)), none]) rfl rfl ?_)
      refine z_goto (tgt := 17) C d_Md_find_86 (by decide) ?_
      exact z_sub2 (ih _ _ _ hf) (And.intro rfl (And.intro rfl (And.intro rfl (And.intro rfl (And.intro rfl trivial)))))
theorem e_Md_find {a0 : Nat} {a1 : Int} {a2 : Int} {M : zHp} {q : Int × zHp} (hf : f_Md_find a0 a1 a2 M = some q) : zk M a0 = 8 := by
  unfold f_Md_find at hf
  exact (zif hf).1
set_option maxHeartbeats 4000000 in
set_option maxRecDepth 100000 in
theorem c_Md_find (D : va_G) (n0 : Nat) (l : Launch) {a0 : Nat} {a1 : Int} {a2 : Int} {M : zHp} {r : Int} {M' : zHp} (hf : f_Md_find a0 a1 a2 M = some (r, M')) : zM D n0 l y_Md_find b_Md_find 6 (some .int) 4 94 0 0 [zv n0 a0, zi a1, zi a2] M (some (zi r)) M' := by
  refine zM.ofZ (by decide) (zcr (zci (zci zcn))) (Nat.le_of_ble_eq_true rfl) ?_
  intro p e s m below meth c C hr hnm
  have C : zC D n0 p s m meth c b_Md_find 6 "LayerVaultModel" := C
  refine z_eqL (L' := [some (zv n0 a0), some (zi a1), some (zi a2), none, none, none]) rfl ?_
  unfold f_Md_find at hf
  have hf := (zif hf).2
  refine z_aload_n C d_Md_find_0 rfl (z_pc (pc' := 1) rfl ?_)
  refine z_iconst C d_Md_find_1 (z_pc (pc' := 2) rfl ?_)
  obtain ⟨M1, h2, hf⟩ := zbind hf
  refine z_puti C fp_Md_183 (by decide) rfl h2 d_Md_find_2 (z_pc (pc' := 5) rfl ?_)
  refine z_aload_n C d_Md_find_5 rfl (z_pc (pc' := 6) rfl ?_)
  refine z_iconst C d_Md_find_6 (z_pc (pc' := 7) rfl ?_)
  refine z_iconst C d_Md_find_7 (z_pc (pc' := 8) rfl ?_)
  refine z_iload_n C d_Md_find_8 rfl (z_pc (pc' := 9) rfl ?_)
  refine z_iload_n C d_Md_find_9 rfl (z_pc (pc' := 10) rfl ?_)
  obtain ⟨x5, M4, h3, hf⟩ := zb2_inv hf
  refine z_callV C [zi (-1), zi 0, zi a1, zi a2] [] kv_Md_186 (c_Md_latest D n0 l h3) (e_Md_latest h3) ⟨(Nat.le_of_ble_eq_true rfl), (Nat.le_of_ble_eq_true rfl)⟩ (Nat.le_of_ble_eq_true rfl) ⟨(Nat.le_of_ble_eq_true rfl), (Nat.le_of_ble_eq_true rfl)⟩ d_Md_find_10 (z_pc (pc' := 13) rfl ?_)
  refine z_istore_n C d_Md_find_13 (by decide) (z_pl (pc' := 14) (L' := [some (zv n0 a0), some (zi a1), some (zi a2), some (zi x5), none, none]) rfl rfl ?_)
  refine z_iconst C d_Md_find_14 (z_pc (pc' := 15) rfl ?_)
  refine z_istore C d_Md_find_15 (by decide) (z_pl (pc' := 17) (L' := [some (zv n0 a0), some (zi a1), some (zi a2), some (zi x5), some (zi 0), none]) rfl rfl ?_)
  refine z_sub2 (w_Md_find_L17 C hr ?_ _ _ _ _ hf) (And.intro rfl (And.intro rfl (And.intro rfl (And.intro rfl (And.intro rfl trivial)))))
  intro v25 M26 hf
  refine z_iload_n C d_Md_find_89 rfl (z_pc (pc' := 90) rfl ?_)
  exact z_iret C hr (Nat.le_of_ble_eq_true rfl) (Nat.le_of_ble_eq_true rfl) d_Md_find_90 hf
theorem e_Md_has {a0 : Nat} {a1 : Int} {a2 : Int} {M : zHp} {q : Int × zHp} (hf : f_Md_has a0 a1 a2 M = some q) : zk M a0 = 8 := by
  unfold f_Md_has at hf
  exact (zif hf).1
set_option maxHeartbeats 4000000 in
set_option maxRecDepth 100000 in
theorem c_Md_has (D : va_G) (n0 : Nat) (l : Launch) {a0 : Nat} {a1 : Int} {a2 : Int} {M : zHp} {r : Int} {M' : zHp} (hf : f_Md_has a0 a1 a2 M = some (r, M')) : zM D n0 l y_Md_has b_Md_has 4 (some .boolean) 5 119 0 0 [zv n0 a0, zi a1, zi a2] M (some (zi r)) M' := by
  refine zM.ofZ (by decide) (zcr (zci (zci zcn))) (Nat.le_of_ble_eq_true rfl) ?_
  intro p e s m below meth c C hr hnm
  have C : zC D n0 p s m meth c b_Md_has 4 "LayerVaultModel" := C
  refine z_eqL (L' := [some (zv n0 a0), some (zi a1), some (zi a2), none]) rfl ?_
  unfold f_Md_has at hf
  have hf := (zif hf).2
  refine z_aload_n C d_Md_has_0 rfl (z_pc (pc' := 1) rfl ?_)
  refine z_iload_n C d_Md_has_1 rfl (z_pc (pc' := 2) rfl ?_)
  obtain ⟨x3, M2, h1, hf⟩ := zb2_inv hf
  refine z_callV C [zi a1] [] kv_Md_196 (c_Md_isView D n0 l h1) (e_Md_isView h1) ⟨(Nat.le_of_ble_eq_true rfl), (Nat.le_of_ble_eq_true rfl)⟩ (Nat.le_of_ble_eq_true rfl) ⟨(Nat.le_of_ble_eq_true rfl), (Nat.le_of_ble_eq_true rfl)⟩ d_Md_has_2 (z_pc (pc' := 5) rfl ?_)
  refine z_if_eq (tgt := 15) C d_Md_has_5 (by decide) (fun c4 => ?_) (fun c4 => z_pc (pc' := 8) rfl ?_)
  · have hf := zpos c4 hf
    refine z_iconst C d_Md_has_15 (z_pc (pc' := 16) rfl ?_)
    exact z_zret C hr rfl (Nat.le_of_ble_eq_true rfl) (Nat.le_of_ble_eq_true rfl) d_Md_has_16 hf
  · have hf := zneg c4 hf
    refine z_iload_n C d_Md_has_8 rfl (z_pc (pc' := 9) rfl ?_)
    obtain ⟨x7, M6, h5, hf⟩ := zb2_inv hf
    refine z_callS C [zi a2] [] ks_Md_137 (c_Md_isKey D n0 l h5) ⟨(Nat.le_of_ble_eq_true rfl), (Nat.le_of_ble_eq_true rfl)⟩ (Nat.le_of_ble_eq_true rfl) ⟨(Nat.le_of_ble_eq_true rfl), (Nat.le_of_ble_eq_true rfl)⟩ d_Md_has_9 (z_pc (pc' := 12) rfl ?_)
    refine z_if_ne (tgt := 17) C d_Md_has_12 (by decide) (fun c8 => ?_) (fun c8 => z_pc (pc' := 15) rfl ?_)
    · have hf := zneg c8 hf
      refine z_aload_n C d_Md_has_17 rfl (z_pc (pc' := 18) rfl ?_)
      refine z_iload_n C d_Md_has_18 rfl (z_pc (pc' := 19) rfl ?_)
      refine z_iload_n C d_Md_has_19 rfl (z_pc (pc' := 20) rfl ?_)
      obtain ⟨x11, M10, h9, hf⟩ := zb2_inv hf
      refine z_callV C [zi a1, zi a2] [] kv_Md_199 (c_Md_find D n0 l h9) (e_Md_find h9) ⟨(Nat.le_of_ble_eq_true rfl), (Nat.le_of_ble_eq_true rfl)⟩ (Nat.le_of_ble_eq_true rfl) ⟨(Nat.le_of_ble_eq_true rfl), (Nat.le_of_ble_eq_true rfl)⟩ d_Md_has_20 (z_pc (pc' := 23) rfl ?_)
      refine z_istore_n C d_Md_has_23 (by decide) (z_pl (pc' := 24) (L' := [some (zv n0 a0), some (zi a1), some (zi a2), some (zi x11)]) rfl rfl ?_)
      refine z_iload_n C d_Md_has_24 rfl (z_pc (pc' := 25) rfl ?_)
      refine z_if_lt (tgt := 40) C d_Md_has_25 (by decide) (fun c12 => ?_) (fun c12 => z_pc (pc' := 28) rfl ?_)
      · have hf := zpos c12 hf
        refine z_iconst C d_Md_has_40 (z_pc (pc' := 41) rfl ?_)
        exact z_zret C hr rfl (Nat.le_of_ble_eq_true rfl) (Nat.le_of_ble_eq_true rfl) d_Md_has_41 hf
      · have hf := zneg c12 hf
        refine z_aload_n C d_Md_has_28 rfl (z_pc (pc' := 29) rfl ?_)
        refine z_iload_n C d_Md_has_29 rfl (z_pc (pc' := 30) rfl ?_)
        obtain ⟨x15, M14, h13, hf⟩ := zb2_inv hf
        refine z_callV C [zi x11] [] kv_Md_92 (c_Md_gone D n0 l h13) (e_Md_gone h13) ⟨(Nat.le_of_ble_eq_true rfl), (Nat.le_of_ble_eq_true rfl)⟩ (Nat.le_of_ble_eq_true rfl) ⟨(Nat.le_of_ble_eq_true rfl), (Nat.le_of_ble_eq_true rfl)⟩ d_Md_has_30 (z_pc (pc' := 33) rfl ?_)
        refine z_if_ne (tgt := 40) C d_Md_has_33 (by decide) (fun c16 => ?_) (fun c16 => z_pc (pc' := 36) rfl ?_)
        · have hf := zneg c16 hf
          refine z_iconst C d_Md_has_40 (z_pc (pc' := 41) rfl ?_)
          exact z_zret C hr rfl (Nat.le_of_ble_eq_true rfl) (Nat.le_of_ble_eq_true rfl) d_Md_has_41 hf
        · have hf := zpos c16 hf
          refine z_iconst C d_Md_has_36 (z_pc (pc' := 37) rfl ?_)
          refine z_goto (tgt := 41) C d_Md_has_37 (by decide) ?_
          exact z_zret C hr rfl (Nat.le_of_ble_eq_true rfl) (Nat.le_of_ble_eq_true rfl) d_Md_has_41 hf
    · have hf := zpos c8 hf
      refine z_iconst C d_Md_has_15 (z_pc (pc' := 16) rfl ?_)
      exact z_zret C hr rfl (Nat.le_of_ble_eq_true rfl) (Nat.le_of_ble_eq_true rfl) d_Md_has_16 hf
theorem e_Md_get {a0 : Nat} {a1 : Int} {a2 : Int} {M : zHp} {q : Int × zHp} (hf : f_Md_get a0 a1 a2 M = some q) : zk M a0 = 8 := by
  unfold f_Md_get at hf
  exact (zif hf).1
set_option maxHeartbeats 4000000 in
set_option maxRecDepth 100000 in
theorem c_Md_get (D : va_G) (n0 : Nat) (l : Launch) {a0 : Nat} {a1 : Int} {a2 : Int} {M : zHp} {r : Int} {M' : zHp} (hf : f_Md_get a0 a1 a2 M = some (r, M')) : zM D n0 l y_Md_get b_Md_get 4 (some .int) 5 119 0 0 [zv n0 a0, zi a1, zi a2] M (some (zi r)) M' := by
  refine zM.ofZ (by decide) (zcr (zci (zci zcn))) (Nat.le_of_ble_eq_true rfl) ?_
  intro p e s m below meth c C hr hnm
  have C : zC D n0 p s m meth c b_Md_get 4 "LayerVaultModel" := C
  refine z_eqL (L' := [some (zv n0 a0), some (zi a1), some (zi a2), none]) rfl ?_
  unfold f_Md_get at hf
  have hf := (zif hf).2
  refine z_aload_n C d_Md_get_0 rfl (z_pc (pc' := 1) rfl ?_)
  refine z_iload_n C d_Md_get_1 rfl (z_pc (pc' := 2) rfl ?_)
  obtain ⟨x3, M2, h1, hf⟩ := zb2_inv hf
  refine z_callV C [zi a1] [] kv_Md_196 (c_Md_isView D n0 l h1) (e_Md_isView h1) ⟨(Nat.le_of_ble_eq_true rfl), (Nat.le_of_ble_eq_true rfl)⟩ (Nat.le_of_ble_eq_true rfl) ⟨(Nat.le_of_ble_eq_true rfl), (Nat.le_of_ble_eq_true rfl)⟩ d_Md_get_2 (z_pc (pc' := 5) rfl ?_)
  refine z_if_eq (tgt := 15) C d_Md_get_5 (by decide) (fun c4 => ?_) (fun c4 => z_pc (pc' := 8) rfl ?_)
  · have hf := zpos c4 hf
    refine z_iconst C d_Md_get_15 (z_pc (pc' := 16) rfl ?_)
    exact z_iret C hr (Nat.le_of_ble_eq_true rfl) (Nat.le_of_ble_eq_true rfl) d_Md_get_16 hf
  · have hf := zneg c4 hf
    refine z_iload_n C d_Md_get_8 rfl (z_pc (pc' := 9) rfl ?_)
    obtain ⟨x7, M6, h5, hf⟩ := zb2_inv hf
    refine z_callS C [zi a2] [] ks_Md_137 (c_Md_isKey D n0 l h5) ⟨(Nat.le_of_ble_eq_true rfl), (Nat.le_of_ble_eq_true rfl)⟩ (Nat.le_of_ble_eq_true rfl) ⟨(Nat.le_of_ble_eq_true rfl), (Nat.le_of_ble_eq_true rfl)⟩ d_Md_get_9 (z_pc (pc' := 12) rfl ?_)
    refine z_if_ne (tgt := 17) C d_Md_get_12 (by decide) (fun c8 => ?_) (fun c8 => z_pc (pc' := 15) rfl ?_)
    · have hf := zneg c8 hf
      refine z_aload_n C d_Md_get_17 rfl (z_pc (pc' := 18) rfl ?_)
      refine z_iload_n C d_Md_get_18 rfl (z_pc (pc' := 19) rfl ?_)
      refine z_iload_n C d_Md_get_19 rfl (z_pc (pc' := 20) rfl ?_)
      obtain ⟨x11, M10, h9, hf⟩ := zb2_inv hf
      refine z_callV C [zi a1, zi a2] [] kv_Md_199 (c_Md_find D n0 l h9) (e_Md_find h9) ⟨(Nat.le_of_ble_eq_true rfl), (Nat.le_of_ble_eq_true rfl)⟩ (Nat.le_of_ble_eq_true rfl) ⟨(Nat.le_of_ble_eq_true rfl), (Nat.le_of_ble_eq_true rfl)⟩ d_Md_get_20 (z_pc (pc' := 23) rfl ?_)
      refine z_istore_n C d_Md_get_23 (by decide) (z_pl (pc' := 24) (L' := [some (zv n0 a0), some (zi a1), some (zi a2), some (zi x11)]) rfl rfl ?_)
      refine z_iload_n C d_Md_get_24 rfl (z_pc (pc' := 25) rfl ?_)
      refine z_if_lt (tgt := 36) C d_Md_get_25 (by decide) (fun c12 => ?_) (fun c12 => z_pc (pc' := 28) rfl ?_)
      · have hf := zpos c12 hf
        refine z_iconst C d_Md_get_36 (z_pc (pc' := 37) rfl ?_)
        refine z_goto (tgt := 46) C d_Md_get_37 (by decide) ?_
        exact z_iret C hr (Nat.le_of_ble_eq_true rfl) (Nat.le_of_ble_eq_true rfl) d_Md_get_46 hf
      · have hf := zneg c12 hf
        refine z_aload_n C d_Md_get_28 rfl (z_pc (pc' := 29) rfl ?_)
        refine z_iload_n C d_Md_get_29 rfl (z_pc (pc' := 30) rfl ?_)
        obtain ⟨x15, M14, h13, hf⟩ := zb2_inv hf
        refine z_callV C [zi x11] [] kv_Md_92 (c_Md_gone D n0 l h13) (e_Md_gone h13) ⟨(Nat.le_of_ble_eq_true rfl), (Nat.le_of_ble_eq_true rfl)⟩ (Nat.le_of_ble_eq_true rfl) ⟨(Nat.le_of_ble_eq_true rfl), (Nat.le_of_ble_eq_true rfl)⟩ d_Md_get_30 (z_pc (pc' := 33) rfl ?_)
        refine z_if_eq (tgt := 40) C d_Md_get_33 (by decide) (fun c16 => ?_) (fun c16 => z_pc (pc' := 36) rfl ?_)
        · have hf := zpos c16 hf
          refine z_aload_n C d_Md_get_40 rfl (z_pc (pc' := 41) rfl ?_)
          obtain ⟨x17, h18, hf⟩ := zbind hf
          refine z_getr C fl_Md_16 rfl h18 d_Md_get_41 (z_pc (pc' := 44) rfl ?_)
          refine z_iload_n C d_Md_get_44 rfl (z_pc (pc' := 45) rfl ?_)
          obtain ⟨x19, h20, hf⟩ := zbind hf
          refine z_iald C h20 d_Md_get_45 (z_pc (pc' := 46) rfl ?_)
          exact z_iret C hr (Nat.le_of_ble_eq_true rfl) (Nat.le_of_ble_eq_true rfl) d_Md_get_46 hf
        · have hf := zneg c16 hf
          refine z_iconst C d_Md_get_36 (z_pc (pc' := 37) rfl ?_)
          refine z_goto (tgt := 46) C d_Md_get_37 (by decide) ?_
          exact z_iret C hr (Nat.le_of_ble_eq_true rfl) (Nat.le_of_ble_eq_true rfl) d_Md_get_46 hf
    · have hf := zpos c8 hf
      refine z_iconst C d_Md_get_15 (z_pc (pc' := 16) rfl ?_)
      exact z_iret C hr (Nat.le_of_ble_eq_true rfl) (Nat.le_of_ble_eq_true rfl) d_Md_get_16 hf
set_option maxHeartbeats 4000000 in
set_option maxRecDepth 100000 in
theorem w_Md_there_L5 {D : va_G} {n0 : Nat} {l : Launch} {p : Program} {e : Env} {s : State} {m : MethodId} {args : Array Value} {below : List Frame} {meth : Method} {c : Code} {a0 : Nat} {a1 : Int} {a2 : Int} {r : Int} {M' : zHp} {κ : Int → zHp → Option (Int × zHp)} (C : zC D n0 p s m meth c b_Md_there 6 "LayerVaultModel") (hr : meth.sig.returnType = (some .boolean))
    (hκ : ∀ (u3 : Int) (M1 : zHp), κ u3 M1 = some (r, M') → zZ D n0 p l e { frames := 1, cells := 0, slots := 0, locals := 22 } s m args below meth c 6 0 0 (MQ below (zQc D n0 (some (zi r)) M') args s 0 0 (fun q => n0 ≤ q)) 88 [some (zv n0 a0), none, none, some (zi u3), none, none] [] M1) :
    ∀ (n : Nat) (v3 : Int) (v4 : Int) (M : zHp), f_Md_there_L5 κ a0 a1 a2 n v3 v4 M = some (r, M') → zZ D n0 p l e { frames := 1, cells := 0, slots := 0, locals := 22 } s m args below meth c 6 0 0 (MQ below (zQc D n0 (some (zi r)) M') args s 0 0 (fun q => n0 ≤ q)) 5 [some (zv n0 a0), some (zi a1), some (zi a2), some (zi v3), some (zi v4), none] [] M := by
  intro n
  induction n with
  | zero =>
    intro v3 v4 M hf
    exact absurd hf (by unfold f_Md_there_L5; simp)
  | succ n ih =>
    intro v3 v4 M hf
    unfold f_Md_there_L5 at hf
    refine z_iload C d_Md_there_5 rfl (z_pc (pc' := 7) rfl ?_)
    refine z_aload_n C d_Md_there_7 rfl (z_pc (pc' := 8) rfl ?_)
    obtain ⟨x1, h2, hf⟩ := zbind hf
    refine z_geti C fl_Md_75 h2 d_Md_there_8 (z_pc (pc' := 11) rfl ?_)
    refine z_icmp_ge (tgt := 88) C d_Md_there_11 (by decide) (fun c3 => ?_) (fun c3 => z_pc (pc' := 14) rfl ?_)
    · have hf := zpos c3 hf
      exact z_sub2 (hκ _ _ hf) (And.intro rfl (And.intro rfl trivial))
    · have hf := zneg c3 hf
      refine z_aload_n C d_Md_there_14 rfl (z_pc (pc' := 15) rfl ?_)
      obtain ⟨x4, h5, hf⟩ := zbind hf
      refine z_getr C fl_Md_26 rfl h5 d_Md_there_15 (z_pc (pc' := 18) rfl ?_)
      refine z_iload C d_Md_there_18 rfl (z_pc (pc' := 20) rfl ?_)
      obtain ⟨x6, h7, hf⟩ := zbind hf
      refine z_iald C h7 d_Md_there_20 (z_pc (pc' := 21) rfl ?_)
      refine z_bipush C d_Md_there_21 (by decide) (z_pc (pc' := 23) rfl ?_)
      refine z_icmp_eq (tgt := 51) C d_Md_there_23 (by decide) (fun c8 => ?_) (fun c8 => z_pc (pc' := 26) rfl ?_)
      · have hf := zpos c8 hf
        refine z_iconst C d_Md_there_51 (z_pc (pc' := 52) rfl ?_)
        refine z_istore C d_Md_there_52 (by decide) (z_pl (pc' := 54) (L' := [some (zv n0 a0), some (zi a1), some (zi a2), some (zi v3), some (zi v4), some (zi 0)]) rfl rfl ?_)
        refine z_iload C d_Md_there_54 rfl (z_pc (pc' := 56) rfl ?_)
        refine z_if_eq (tgt := 82) C d_Md_there_56 (by decide) (fun _ => ?_) (fun c9 => absurd c9 (by decide))
        refine z_iinc C d_Md_there_82 rfl (by decide) (z_pl (pc' := 85) (L' := [some (zv n0 a0), some (zi a1), some (zi a2), some (zi v3), some (zi (zadd v4 1)), some (zi 0)]) rfl rfl ?_)
        refine z_goto (tgt := 5) C d_Md_there_85 (by decide) ?_
        exact z_sub2 (ih _ _ _ hf) (And.intro rfl (And.intro rfl (And.intro rfl (And.intro rfl (And.intro rfl trivial)))))
      · have hf := zneg c8 hf
        refine z_aload_n C d_Md_there_26 rfl (z_pc (pc' := 27) rfl ?_)
        obtain ⟨x10, h11, hf⟩ := zbind hf
        refine z_getr C fl_Md_7 rfl h11 d_Md_there_27 (z_pc (pc' := 30) rfl ?_)
        refine z_iload C d_Md_there_30 rfl (z_pc (pc' := 32) rfl ?_)
        obtain ⟨x12, h13, hf⟩ := zbind hf
        refine z_iald C h13 d_Md_there_32 (z_pc (pc' := 33) rfl ?_)
        refine z_iload_n C d_Md_there_33 rfl (z_pc (pc' := 34) rfl ?_)
        refine z_icmp_ne (tgt := 51) C d_Md_there_34 (by decide) (fun c14 => ?_) (fun c14 => z_pc (pc' := 37) rfl ?_)
        · have hf := zneg c14 hf
          refine z_iconst C d_Md_there_51 (z_pc (pc' := 52) rfl ?_)
          refine z_istore C d_Md_there_52 (by decide) (z_pl (pc' := 54) (L' := [some (zv n0 a0), some (zi a1), some (zi a2), some (zi v3), some (zi v4), some (zi 0)]) rfl rfl ?_)
          refine z_iload C d_Md_there_54 rfl (z_pc (pc' := 56) rfl ?_)
          refine z_if_eq (tgt := 82) C d_Md_there_56 (by decide) (fun _ => ?_) (fun c15 => absurd c15 (by decide))
          refine z_iinc C d_Md_there_82 rfl (by decide) (z_pl (pc' := 85) (L' := [some (zv n0 a0), some (zi a1), some (zi a2), some (zi v3), some (zi (zadd v4 1)), some (zi 0)]) rfl rfl ?_)
          refine z_goto (tgt := 5) C d_Md_there_85 (by decide) ?_
          exact z_sub2 (ih _ _ _ hf) (And.intro rfl (And.intro rfl (And.intro rfl (And.intro rfl (And.intro rfl trivial)))))
        · have hf := zpos c14 hf
          refine z_aload_n C d_Md_there_37 rfl (z_pc (pc' := 38) rfl ?_)
          refine z_iload C d_Md_there_38 rfl (z_pc (pc' := 40) rfl ?_)
          refine z_iload_n C d_Md_there_40 rfl (z_pc (pc' := 41) rfl ?_)
          obtain ⟨x18, M17, h16, hf⟩ := zb2_inv hf
          refine z_callV C [zi v4, zi a1] [] kv_Md_172 (c_Md_isSeen D n0 l h16) (e_Md_isSeen h16) ⟨(Nat.le_of_ble_eq_true rfl), (Nat.le_of_ble_eq_true rfl)⟩ (Nat.le_of_ble_eq_true rfl) ⟨(Nat.le_of_ble_eq_true rfl), (Nat.le_of_ble_eq_true rfl)⟩ d_Md_there_41 (z_pc (pc' := 44) rfl ?_)
          refine z_if_eq (tgt := 51) C d_Md_there_44 (by decide) (fun c19 => ?_) (fun c19 => z_pc (pc' := 47) rfl ?_)
          · have hf := zpos c19 hf
            refine z_iconst C d_Md_there_51 (z_pc (pc' := 52) rfl ?_)
            refine z_istore C d_Md_there_52 (by decide) (z_pl (pc' := 54) (L' := [some (zv n0 a0), some (zi a1), some (zi a2), some (zi v3), some (zi v4), some (zi 0)]) rfl rfl ?_)
            refine z_iload C d_Md_there_54 rfl (z_pc (pc' := 56) rfl ?_)
            refine z_if_eq (tgt := 82) C d_Md_there_56 (by decide) (fun _ => ?_) (fun c20 => absurd c20 (by decide))
            refine z_iinc C d_Md_there_82 rfl (by decide) (z_pl (pc' := 85) (L' := [some (zv n0 a0), some (zi a1), some (zi a2), some (zi v3), some (zi (zadd v4 1)), some (zi 0)]) rfl rfl ?_)
            refine z_goto (tgt := 5) C d_Md_there_85 (by decide) ?_
            exact z_sub2 (ih _ _ _ hf) (And.intro rfl (And.intro rfl (And.intro rfl (And.intro rfl (And.intro rfl trivial)))))
          · have hf := zneg c19 hf
            refine z_iconst C d_Md_there_47 (z_pc (pc' := 48) rfl ?_)
            refine z_goto (tgt := 52) C d_Md_there_48 (by decide) ?_
            refine z_istore C d_Md_there_52 (by decide) (z_pl (pc' := 54) (L' := [some (zv n0 a0), some (zi a1), some (zi a2), some (zi v3), some (zi v4), some (zi 1)]) rfl rfl ?_)
            refine z_iload C d_Md_there_54 rfl (z_pc (pc' := 56) rfl ?_)
            refine z_if_eq (tgt := 82) C d_Md_there_56 (by decide) (fun c21 => absurd c21 (by decide)) (fun _ => z_pc (pc' := 59) rfl ?_)
            refine z_iload_n C d_Md_there_59 rfl (z_pc (pc' := 60) rfl ?_)
            refine z_if_lt (tgt := 79) C d_Md_there_60 (by decide) (fun c22 => ?_) (fun c22 => z_pc (pc' := 63) rfl ?_)
            · have hf := zpos c22 hf
              refine z_iload C d_Md_there_79 rfl (z_pc (pc' := 81) rfl ?_)
              refine z_istore_n C d_Md_there_81 (by decide) (z_pl (pc' := 82) (L' := [some (zv n0 a0), some (zi a1), some (zi a2), some (zi v4), some (zi v4), some (zi 1)]) rfl rfl ?_)
              refine z_iinc C d_Md_there_82 rfl (by decide) (z_pl (pc' := 85) (L' := [some (zv n0 a0), some (zi a1), some (zi a2), some (zi v4), some (zi (zadd v4 1)), some (zi 1)]) rfl rfl ?_)
              refine z_goto (tgt := 5) C d_Md_there_85 (by decide) ?_
              exact z_sub2 (ih _ _ _ hf) (And.intro rfl (And.intro rfl (And.intro rfl (And.intro rfl (And.intro rfl trivial)))))
            · have hf := zneg c22 hf
              refine z_aload_n C d_Md_there_63 rfl (z_pc (pc' := 64) rfl ?_)
              obtain ⟨x23, h24, hf⟩ := zbind hf
              refine z_getr C fl_Md_13 rfl h24 d_Md_there_64 (z_pc (pc' := 67) rfl ?_)
              refine z_iload C d_Md_there_67 rfl (z_pc (pc' := 69) rfl ?_)
              obtain ⟨x25, h26, hf⟩ := zbind hf
              refine z_iald C h26 d_Md_there_69 (z_pc (pc' := 70) rfl ?_)
              refine z_aload_n C d_Md_there_70 rfl (z_pc (pc' := 71) rfl ?_)
              obtain ⟨x27, h28, hf⟩ := zbind hf
              refine z_getr C fl_Md_13 rfl h28 d_Md_there_71 (z_pc (pc' := 74) rfl ?_)
              refine z_iload_n C d_Md_there_74 rfl (z_pc (pc' := 75) rfl ?_)
              obtain ⟨x29, h30, hf⟩ := zbind hf
              refine z_iald C h30 d_Md_there_75 (z_pc (pc' := 76) rfl ?_)
              refine z_icmp_le (tgt := 82) C d_Md_there_76 (by decide) (fun c31 => ?_) (fun c31 => z_pc (pc' := 79) rfl ?_)
              · have hf := zpos c31 hf
                refine z_iinc C d_Md_there_82 rfl (by decide) (z_pl (pc' := 85) (L' := [some (zv n0 a0), some (zi a1), some (zi a2), some (zi v3), some (zi (zadd v4 1)), some (zi 1)]) rfl rfl ?_)
                refine z_goto (tgt := 5) C d_Md_there_85 (by decide) ?_
                exact z_sub2 (ih _ _ _ hf) (And.intro rfl (And.intro rfl (And.intro rfl (And.intro rfl (And.intro rfl trivial)))))
              · have hf := zneg c31 hf
                refine z_iload C d_Md_there_79 rfl (z_pc (pc' := 81) rfl ?_)
                refine z_istore_n C d_Md_there_81 (by decide) (z_pl (pc' := 82) (L' := [some (zv n0 a0), some (zi a1), some (zi a2), some (zi v4), some (zi v4), some (zi 1)]) rfl rfl ?_)
                refine z_iinc C d_Md_there_82 rfl (by decide) (z_pl (pc' := 85) (L' := [some (zv n0 a0), some (zi a1), some (zi a2), some (zi v4), some (zi (zadd v4 1)), some (zi 1)]) rfl rfl ?_)
                refine z_goto (tgt := 5) C d_Md_there_85 (by decide) ?_
                exact z_sub2 (ih _ _ _ hf) (And.intro rfl (And.intro rfl (And.intro rfl (And.intro rfl (And.intro rfl trivial)))))
theorem e_Md_there {a0 : Nat} {a1 : Int} {a2 : Int} {M : zHp} {q : Int × zHp} (hf : f_Md_there a0 a1 a2 M = some q) : zk M a0 = 8 := by
  unfold f_Md_there at hf
  exact (zif hf).1
set_option maxHeartbeats 4000000 in
set_option maxRecDepth 100000 in
theorem c_Md_there (D : va_G) (n0 : Nat) (l : Launch) {a0 : Nat} {a1 : Int} {a2 : Int} {M : zHp} {r : Int} {M' : zHp} (hf : f_Md_there a0 a1 a2 M = some (r, M')) : zM D n0 l y_Md_there b_Md_there 6 (some .boolean) 1 22 0 0 [zv n0 a0, zi a1, zi a2] M (some (zi r)) M' := by
  refine zM.ofZ (by decide) (zcr (zci (zci zcn))) (Nat.le_of_ble_eq_true rfl) ?_
  intro p e s m below meth c C hr hnm
  have C : zC D n0 p s m meth c b_Md_there 6 "LayerVaultModel" := C
  refine z_eqL (L' := [some (zv n0 a0), some (zi a1), some (zi a2), none, none, none]) rfl ?_
  unfold f_Md_there at hf
  have hf := (zif hf).2
  refine z_iconst C d_Md_there_0 (z_pc (pc' := 1) rfl ?_)
  refine z_istore_n C d_Md_there_1 (by decide) (z_pl (pc' := 2) (L' := [some (zv n0 a0), some (zi a1), some (zi a2), some (zi (-1)), none, none]) rfl rfl ?_)
  refine z_iconst C d_Md_there_2 (z_pc (pc' := 3) rfl ?_)
  refine z_istore C d_Md_there_3 (by decide) (z_pl (pc' := 5) (L' := [some (zv n0 a0), some (zi a1), some (zi a2), some (zi (-1)), some (zi 0), none]) rfl rfl ?_)
  refine z_sub2 (w_Md_there_L5 C hr ?_ _ _ _ _ hf) (And.intro rfl (And.intro rfl (And.intro rfl (And.intro rfl (And.intro rfl trivial)))))
  intro v32 M33 hf
  refine z_iload_n C d_Md_there_88 rfl (z_pc (pc' := 89) rfl ?_)
  refine z_if_lt (tgt := 104) C d_Md_there_89 (by decide) (fun c34 => ?_) (fun c34 => z_pc (pc' := 92) rfl ?_)
  · have hf := zpos c34 hf
    refine z_iconst C d_Md_there_104 (z_pc (pc' := 105) rfl ?_)
    exact z_zret C hr rfl (Nat.le_of_ble_eq_true rfl) (Nat.le_of_ble_eq_true rfl) d_Md_there_105 hf
  · have hf := zneg c34 hf
    refine z_aload_n C d_Md_there_92 rfl (z_pc (pc' := 93) rfl ?_)
    refine z_iload_n C d_Md_there_93 rfl (z_pc (pc' := 94) rfl ?_)
    obtain ⟨x37, M36, h35, hf⟩ := zb2_inv hf
    refine z_callV C [zi v32] [] kv_Md_92 (c_Md_gone D n0 l h35) (e_Md_gone h35) ⟨(Nat.le_of_ble_eq_true rfl), (Nat.le_of_ble_eq_true rfl)⟩ (Nat.le_of_ble_eq_true rfl) ⟨(Nat.le_of_ble_eq_true rfl), (Nat.le_of_ble_eq_true rfl)⟩ d_Md_there_94 (z_pc (pc' := 97) rfl ?_)
    refine z_if_ne (tgt := 104) C d_Md_there_97 (by decide) (fun c38 => ?_) (fun c38 => z_pc (pc' := 100) rfl ?_)
    · have hf := zneg c38 hf
      refine z_iconst C d_Md_there_104 (z_pc (pc' := 105) rfl ?_)
      exact z_zret C hr rfl (Nat.le_of_ble_eq_true rfl) (Nat.le_of_ble_eq_true rfl) d_Md_there_105 hf
    · have hf := zpos c38 hf
      refine z_iconst C d_Md_there_100 (z_pc (pc' := 101) rfl ?_)
      refine z_goto (tgt := 105) C d_Md_there_101 (by decide) ?_
      exact z_zret C hr rfl (Nat.le_of_ble_eq_true rfl) (Nat.le_of_ble_eq_true rfl) d_Md_there_105 hf
set_option maxHeartbeats 4000000 in
set_option maxRecDepth 100000 in
theorem w_Md_scan_L28 {D : va_G} {n0 : Nat} {l : Launch} {p : Program} {e : Env} {s : State} {m : MethodId} {args : Array Value} {below : List Frame} {meth : Method} {c : Code} {a0 : Nat} {a1 : Int} {a3 : Int} {r : Int} {M' : zHp} {κ : zHp → Option (Int × zHp)} (C : zC D n0 p s m meth c b_Md_scan 6 "LayerVaultModel") (hr : meth.sig.returnType = (some .int))
    (hκ : ∀ (M1 : zHp), κ M1 = some (r, M') → zZ D n0 p l e { frames := 2, cells := 0, slots := 0, locals := 47 } s m args below meth c 6 0 0 (MQ below (zQc D n0 (some (zi r)) M') args s 0 0 (fun q => n0 ≤ q)) 66 [none, none, none, none, none, none] [] M1) :
    ∀ (n : Nat) (v4 : Int) (v5 : Int) (M : zHp), f_Md_scan_L28 κ a0 a1 a3 n v4 v5 M = some (r, M') → zZ D n0 p l e { frames := 2, cells := 0, slots := 0, locals := 47 } s m args below meth c 6 0 0 (MQ below (zQc D n0 (some (zi r)) M') args s 0 0 (fun q => n0 ≤ q)) 28 [some (zv n0 a0), some (zi a1), none, some (zi a3), some (zi v4), some (zi v5)] [] M := by
  intro n
  induction n with
  | zero =>
    intro v4 v5 M hf
    exact absurd hf (by unfold f_Md_scan_L28; simp)
  | succ n ih =>
    intro v4 v5 M hf
    unfold f_Md_scan_L28 at hf
    refine z_iload C d_Md_scan_28 rfl (z_pc (pc' := 30) rfl ?_)
    refine z_bipush C d_Md_scan_30 (by decide) (z_pc (pc' := 32) rfl ?_)
    refine z_icmp_ge (tgt := 66) C d_Md_scan_32 (by decide) (fun c7 => ?_) (fun c7 => z_pc (pc' := 35) rfl ?_)
    · have hf := zpos c7 hf
      exact z_sub2 (hκ _ hf) trivial
    · have hf := zneg c7 hf
      refine z_aload_n C d_Md_scan_35 rfl (z_pc (pc' := 36) rfl ?_)
      refine z_iload_n C d_Md_scan_36 rfl (z_pc (pc' := 37) rfl ?_)
      refine z_iload C d_Md_scan_37 rfl (z_pc (pc' := 39) rfl ?_)
      obtain ⟨x10, M9, h8, hf⟩ := zb2_inv hf
      refine z_callV C [zi a1, zi v5] [] kv_Md_202 (c_Md_there D n0 l h8) (e_Md_there h8) ⟨(Nat.le_of_ble_eq_true rfl), (Nat.le_of_ble_eq_true rfl)⟩ (Nat.le_of_ble_eq_true rfl) ⟨(Nat.le_of_ble_eq_true rfl), (Nat.le_of_ble_eq_true rfl)⟩ d_Md_scan_39 (z_pc (pc' := 42) rfl ?_)
      refine z_if_ne (tgt := 48) C d_Md_scan_42 (by decide) (fun c11 => ?_) (fun c11 => z_pc (pc' := 45) rfl ?_)
      · have hf := zneg c11 hf
        refine z_iload C d_Md_scan_48 rfl (z_pc (pc' := 50) rfl ?_)
        refine z_iload_n C d_Md_scan_50 rfl (z_pc (pc' := 51) rfl ?_)
        refine z_icmp_ne (tgt := 57) C d_Md_scan_51 (by decide) (fun c12 => ?_) (fun c12 => z_pc (pc' := 54) rfl ?_)
        · have hf := zneg c12 hf
          refine z_iinc C d_Md_scan_57 rfl (by decide) (z_pl (pc' := 60) (L' := [some (zv n0 a0), some (zi a1), none, some (zi a3), some (zi (zadd v4 1)), some (zi v5)]) rfl rfl ?_)
          refine z_iinc C d_Md_scan_60 rfl (by decide) (z_pl (pc' := 63) (L' := [some (zv n0 a0), some (zi a1), none, some (zi a3), some (zi (zadd v4 1)), some (zi (zadd v5 1))]) rfl rfl ?_)
          refine z_goto (tgt := 28) C d_Md_scan_63 (by decide) ?_
          exact z_sub2 (ih _ _ _ hf) (And.intro rfl (And.intro rfl (And.intro rfl (And.intro rfl (And.intro rfl trivial)))))
        · have hf := zpos c12 hf
          refine z_iload C d_Md_scan_54 rfl (z_pc (pc' := 56) rfl ?_)
          exact z_iret C hr (Nat.le_of_ble_eq_true rfl) (Nat.le_of_ble_eq_true rfl) d_Md_scan_56 hf
      · have hf := zpos c11 hf
        refine z_goto (tgt := 60) C d_Md_scan_45 (by decide) ?_
        refine z_iinc C d_Md_scan_60 rfl (by decide) (z_pl (pc' := 63) (L' := [some (zv n0 a0), some (zi a1), none, some (zi a3), some (zi v4), some (zi (zadd v5 1))]) rfl rfl ?_)
        refine z_goto (tgt := 28) C d_Md_scan_63 (by decide) ?_
        exact z_sub2 (ih _ _ _ hf) (And.intro rfl (And.intro rfl (And.intro rfl (And.intro rfl (And.intro rfl trivial)))))
theorem e_Md_scan {a0 : Nat} {a1 : Int} {a2 : Int} {a3 : Int} {M : zHp} {q : Int × zHp} (hf : f_Md_scan a0 a1 a2 a3 M = some q) : zk M a0 = 8 := by
  unfold f_Md_scan at hf
  exact (zif hf).1
set_option maxHeartbeats 4000000 in
set_option maxRecDepth 100000 in
theorem c_Md_scan (D : va_G) (n0 : Nat) (l : Launch) {a0 : Nat} {a1 : Int} {a2 : Int} {a3 : Int} {M : zHp} {r : Int} {M' : zHp} (hf : f_Md_scan a0 a1 a2 a3 M = some (r, M')) : zM D n0 l y_Md_scan b_Md_scan 6 (some .int) 2 47 0 0 [zv n0 a0, zi a1, zi a2, zi a3] M (some (zi r)) M' := by
  refine zM.ofZ (by decide) (zcr (zci (zci (zci zcn)))) (Nat.le_of_ble_eq_true rfl) ?_
  intro p e s m below meth c C hr hnm
  have C : zC D n0 p s m meth c b_Md_scan 6 "LayerVaultModel" := C
  refine z_eqL (L' := [some (zv n0 a0), some (zi a1), some (zi a2), some (zi a3), none, none]) rfl ?_
  unfold f_Md_scan at hf
  have hf := (zif hf).2
  refine z_aload_n C d_Md_scan_0 rfl (z_pc (pc' := 1) rfl ?_)
  refine z_iload_n C d_Md_scan_1 rfl (z_pc (pc' := 2) rfl ?_)
  obtain ⟨x3, M2, h1, hf⟩ := zb2_inv hf
  refine z_callV C [zi a1] [] kv_Md_196 (c_Md_isView D n0 l h1) (e_Md_isView h1) ⟨(Nat.le_of_ble_eq_true rfl), (Nat.le_of_ble_eq_true rfl)⟩ (Nat.le_of_ble_eq_true rfl) ⟨(Nat.le_of_ble_eq_true rfl), (Nat.le_of_ble_eq_true rfl)⟩ d_Md_scan_2 (z_pc (pc' := 5) rfl ?_)
  refine z_if_eq (tgt := 12) C d_Md_scan_5 (by decide) (fun c4 => ?_) (fun c4 => z_pc (pc' := 8) rfl ?_)
  · have hf := zpos c4 hf
    refine z_iconst C d_Md_scan_12 (z_pc (pc' := 13) rfl ?_)
    exact z_iret C hr (Nat.le_of_ble_eq_true rfl) (Nat.le_of_ble_eq_true rfl) d_Md_scan_13 hf
  · have hf := zneg c4 hf
    refine z_iload_n C d_Md_scan_8 rfl (z_pc (pc' := 9) rfl ?_)
    refine z_if_ge (tgt := 14) C d_Md_scan_9 (by decide) (fun c5 => ?_) (fun c5 => z_pc (pc' := 12) rfl ?_)
    · have hf := zpos c5 hf
      refine z_iconst C d_Md_scan_14 (z_pc (pc' := 15) rfl ?_)
      refine z_istore C d_Md_scan_15 (by decide) (z_pl (pc' := 17) (L' := [some (zv n0 a0), some (zi a1), some (zi a2), some (zi a3), some (zi 0), none]) rfl rfl ?_)
      refine z_iload_n C d_Md_scan_17 rfl (z_pc (pc' := 18) rfl ?_)
      refine z_if_ge (tgt := 25) C d_Md_scan_18 (by decide) (fun c6 => ?_) (fun c6 => z_pc (pc' := 21) rfl ?_)
      · have hf := zpos c6 hf
        refine z_iload_n C d_Md_scan_25 rfl (z_pc (pc' := 26) rfl ?_)
        refine z_istore C d_Md_scan_26 (by decide) (z_pl (pc' := 28) (L' := [some (zv n0 a0), some (zi a1), some (zi a2), some (zi a3), some (zi 0), some (zi a2)]) rfl rfl ?_)
        refine z_sub2 (w_Md_scan_L28 C hr ?_ _ _ _ _ hf) (And.intro rfl (And.intro rfl (And.intro rfl (And.intro rfl (And.intro rfl trivial)))))
        intro M13 hf
        refine z_bipush C d_Md_scan_66 (by decide) (z_pc (pc' := 68) rfl ?_)
        exact z_iret C hr (Nat.le_of_ble_eq_true rfl) (Nat.le_of_ble_eq_true rfl) d_Md_scan_68 hf
      · have hf := zneg c6 hf
        refine z_iconst C d_Md_scan_21 (z_pc (pc' := 22) rfl ?_)
        refine z_goto (tgt := 26) C d_Md_scan_22 (by decide) ?_
        refine z_istore C d_Md_scan_26 (by decide) (z_pl (pc' := 28) (L' := [some (zv n0 a0), some (zi a1), some (zi a2), some (zi a3), some (zi 0), some (zi 0)]) rfl rfl ?_)
        refine z_sub2 (w_Md_scan_L28 C hr ?_ _ _ _ _ hf) (And.intro rfl (And.intro rfl (And.intro rfl (And.intro rfl (And.intro rfl trivial)))))
        intro M14 hf
        refine z_bipush C d_Md_scan_66 (by decide) (z_pc (pc' := 68) rfl ?_)
        exact z_iret C hr (Nat.le_of_ble_eq_true rfl) (Nat.le_of_ble_eq_true rfl) d_Md_scan_68 hf
    · have hf := zneg c5 hf
      refine z_iconst C d_Md_scan_12 (z_pc (pc' := 13) rfl ?_)
      exact z_iret C hr (Nat.le_of_ble_eq_true rfl) (Nat.le_of_ble_eq_true rfl) d_Md_scan_13 hf
theorem e_Md_probes {a0 : Nat} {M : zHp} {q : Int × zHp} (hf : f_Md_probes a0 M = some q) : zk M a0 = 8 := by
  unfold f_Md_probes at hf
  exact (zif hf).1
set_option maxHeartbeats 4000000 in
set_option maxRecDepth 100000 in
theorem c_Md_probes (D : va_G) (n0 : Nat) (l : Launch) {a0 : Nat} {M : zHp} {r : Int} {M' : zHp} (hf : f_Md_probes a0 M = some (r, M')) : zM D n0 l y_Md_probes b_Md_probes 1 (some .int) 0 0 0 0 [zv n0 a0] M (some (zi r)) M' := by
  refine zM.ofZ (by decide) (zcr zcn) (Nat.le_of_ble_eq_true rfl) ?_
  intro p e s m below meth c C hr hnm
  have C : zC D n0 p s m meth c b_Md_probes 1 "LayerVaultModel" := C
  refine z_eqL (L' := [some (zv n0 a0)]) rfl ?_
  unfold f_Md_probes at hf
  have hf := (zif hf).2
  refine z_aload_n C d_Md_probes_0 rfl (z_pc (pc' := 1) rfl ?_)
  obtain ⟨x1, h2, hf⟩ := zbind hf
  refine z_geti C fl_Md_183 h2 d_Md_probes_1 (z_pc (pc' := 4) rfl ?_)
  exact z_iret C hr (Nat.le_of_ble_eq_true rfl) (Nat.le_of_ble_eq_true rfl) d_Md_probes_4 hf
set_option maxHeartbeats 4000000 in
set_option maxRecDepth 100000 in
theorem w_Md_table_L49 {D : va_G} {n0 : Nat} {l : Launch} {p : Program} {e : Env} {s : State} {m : MethodId} {args : Array Value} {below : List Frame} {meth : Method} {c : Code} {a0 : Nat} {a1 : Int} {a2 : Int} {a3 : Int} {r : Int} {M' : zHp} {κ : Int → Int → zHp → Option (Int × zHp)} (C : zC D n0 p s m meth c b_Md_table 8 "LayerVaultModel") (hr : meth.sig.returnType = (some .int))
    (hκ : ∀ (u5 : Int) (u6 : Int) (M1 : zHp), κ u5 u6 M1 = some (r, M') → zZ D n0 p l e { frames := 3, cells := 0, slots := 0, locals := 69 } s m args below meth c 8 0 0 (MQ below (zQc D n0 (some (zi r)) M') args s 0 0 (fun q => n0 ≤ q)) 107 [some (zv n0 a0), some (zi a1), some (zi a2), some (zi a3), none, some (zi u5), some (zi u6), none] [] M1) :
    ∀ (n : Nat) (v5 : Int) (v6 : Int) (v7 : Int) (M : zHp), f_Md_table_L49 κ a0 a1 a2 n v5 v6 v7 M = some (r, M') → zZ D n0 p l e { frames := 3, cells := 0, slots := 0, locals := 69 } s m args below meth c 8 0 0 (MQ below (zQc D n0 (some (zi r)) M') args s 0 0 (fun q => n0 ≤ q)) 49 [some (zv n0 a0), some (zi a1), some (zi a2), some (zi a3), none, some (zi v5), some (zi v6), some (zi v7)] [] M := by
  intro n
  induction n with
  | zero =>
    intro v5 v6 v7 M hf
    exact absurd hf (by unfold f_Md_table_L49; simp)
  | succ n ih =>
    intro v5 v6 v7 M hf
    unfold f_Md_table_L49 at hf
    refine z_iload C d_Md_table_49 rfl (z_pc (pc' := 51) rfl ?_)
    refine z_aload_n C d_Md_table_51 rfl (z_pc (pc' := 52) rfl ?_)
    obtain ⟨x9, h10, hf⟩ := zbind hf
    refine z_geti C fl_Md_75 h10 d_Md_table_52 (z_pc (pc' := 55) rfl ?_)
    refine z_icmp_ge (tgt := 107) C d_Md_table_55 (by decide) (fun c11 => ?_) (fun c11 => z_pc (pc' := 58) rfl ?_)
    · have hf := zpos c11 hf
      exact z_sub2 (hκ _ _ _ hf) (And.intro rfl (And.intro rfl (And.intro rfl (And.intro rfl (And.intro rfl (And.intro rfl trivial))))))
    · have hf := zneg c11 hf
      refine z_aload_n C d_Md_table_58 rfl (z_pc (pc' := 59) rfl ?_)
      refine z_iload C d_Md_table_59 rfl (z_pc (pc' := 61) rfl ?_)
      refine z_iload_n C d_Md_table_61 rfl (z_pc (pc' := 62) rfl ?_)
      refine z_iload_n C d_Md_table_62 rfl (z_pc (pc' := 63) rfl ?_)
      obtain ⟨x14, M13, h12, hf⟩ := zb2_inv hf
      refine z_callV C [zi v7, zi a1, zi a2] [] kv_Md_168 (c_Md_lies D n0 l h12) (e_Md_lies h12) ⟨(Nat.le_of_ble_eq_true rfl), (Nat.le_of_ble_eq_true rfl)⟩ (Nat.le_of_ble_eq_true rfl) ⟨(Nat.le_of_ble_eq_true rfl), (Nat.le_of_ble_eq_true rfl)⟩ d_Md_table_63 (z_pc (pc' := 66) rfl ?_)
      refine z_if_ne (tgt := 72) C d_Md_table_66 (by decide) (fun c15 => ?_) (fun c15 => z_pc (pc' := 69) rfl ?_)
      · have hf := zneg c15 hf
        refine z_iinc C d_Md_table_72 rfl (by decide) (z_pl (pc' := 75) (L' := [some (zv n0 a0), some (zi a1), some (zi a2), some (zi a3), none, some (zi (zadd v5 1)), some (zi v6), some (zi v7)]) rfl rfl ?_)
        refine z_aload_n C d_Md_table_75 rfl (z_pc (pc' := 76) rfl ?_)
        obtain ⟨x16, h17, hf⟩ := zbind hf
        refine z_getr C fl_Md_13 rfl h17 d_Md_table_76 (z_pc (pc' := 79) rfl ?_)
        refine z_iload C d_Md_table_79 rfl (z_pc (pc' := 81) rfl ?_)
        obtain ⟨x18, h19, hf⟩ := zbind hf
        refine z_iald C h19 d_Md_table_81 (z_pc (pc' := 82) rfl ?_)
        refine z_iload C d_Md_table_82 rfl (z_pc (pc' := 84) rfl ?_)
        refine z_icmp_le (tgt := 97) C d_Md_table_84 (by decide) (fun c20 => ?_) (fun c20 => z_pc (pc' := 87) rfl ?_)
        · have hf := zpos c20 hf
          refine z_iload C d_Md_table_97 rfl (z_pc (pc' := 99) rfl ?_)
          refine z_istore C d_Md_table_99 (by decide) (z_pl (pc' := 101) (L' := [some (zv n0 a0), some (zi a1), some (zi a2), some (zi a3), none, some (zi (zadd v5 1)), some (zi v6), some (zi v7)]) rfl rfl ?_)
          refine z_iinc C d_Md_table_101 rfl (by decide) (z_pl (pc' := 104) (L' := [some (zv n0 a0), some (zi a1), some (zi a2), some (zi a3), none, some (zi (zadd v5 1)), some (zi v6), some (zi (zadd v7 1))]) rfl rfl ?_)
          refine z_goto (tgt := 49) C d_Md_table_104 (by decide) ?_
          exact z_sub2 (ih _ _ _ _ hf) (And.intro rfl (And.intro rfl (And.intro rfl (And.intro rfl (And.intro rfl (And.intro rfl (And.intro rfl trivial)))))))
        · have hf := zneg c20 hf
          refine z_aload_n C d_Md_table_87 rfl (z_pc (pc' := 88) rfl ?_)
          obtain ⟨x21, h22, hf⟩ := zbind hf
          refine z_getr C fl_Md_13 rfl h22 d_Md_table_88 (z_pc (pc' := 91) rfl ?_)
          refine z_iload C d_Md_table_91 rfl (z_pc (pc' := 93) rfl ?_)
          obtain ⟨x23, h24, hf⟩ := zbind hf
          refine z_iald C h24 d_Md_table_93 (z_pc (pc' := 94) rfl ?_)
          refine z_goto (tgt := 99) C d_Md_table_94 (by decide) ?_
          refine z_istore C d_Md_table_99 (by decide) (z_pl (pc' := 101) (L' := [some (zv n0 a0), some (zi a1), some (zi a2), some (zi a3), none, some (zi (zadd v5 1)), some (zi x23), some (zi v7)]) rfl rfl ?_)
          refine z_iinc C d_Md_table_101 rfl (by decide) (z_pl (pc' := 104) (L' := [some (zv n0 a0), some (zi a1), some (zi a2), some (zi a3), none, some (zi (zadd v5 1)), some (zi x23), some (zi (zadd v7 1))]) rfl rfl ?_)
          refine z_goto (tgt := 49) C d_Md_table_104 (by decide) ?_
          exact z_sub2 (ih _ _ _ _ hf) (And.intro rfl (And.intro rfl (And.intro rfl (And.intro rfl (And.intro rfl (And.intro rfl (And.intro rfl trivial)))))))
      · have hf := zpos c15 hf
        refine z_goto (tgt := 101) C d_Md_table_69 (by decide) ?_
        refine z_iinc C d_Md_table_101 rfl (by decide) (z_pl (pc' := 104) (L' := [some (zv n0 a0), some (zi a1), some (zi a2), some (zi a3), none, some (zi v5), some (zi v6), some (zi (zadd v7 1))]) rfl rfl ?_)
        refine z_goto (tgt := 49) C d_Md_table_104 (by decide) ?_
        exact z_sub2 (ih _ _ _ _ hf) (And.intro rfl (And.intro rfl (And.intro rfl (And.intro rfl (And.intro rfl (And.intro rfl (And.intro rfl trivial)))))))
theorem e_Md_table {a0 : Nat} {a1 : Int} {a2 : Int} {a3 : Int} {M : zHp} {q : Int × zHp} (hf : f_Md_table a0 a1 a2 a3 M = some q) : zk M a0 = 8 := by
  unfold f_Md_table at hf
  exact (zif hf).1
set_option maxHeartbeats 4000000 in
set_option maxRecDepth 100000 in
theorem c_Md_table (D : va_G) (n0 : Nat) (l : Launch) {a0 : Nat} {a1 : Int} {a2 : Int} {a3 : Int} {M : zHp} {r : Int} {M' : zHp} (hf : f_Md_table a0 a1 a2 a3 M = some (r, M')) : zM D n0 l y_Md_table b_Md_table 8 (some .int) 3 69 0 0 [zv n0 a0, zi a1, zi a2, zi a3] M (some (zi r)) M' := by
  refine zM.ofZ (by decide) (zcr (zci (zci (zci zcn)))) (Nat.le_of_ble_eq_true rfl) ?_
  intro p e s m below meth c C hr hnm
  have C : zC D n0 p s m meth c b_Md_table 8 "LayerVaultModel" := C
  refine z_eqL (L' := [some (zv n0 a0), some (zi a1), some (zi a2), some (zi a3), none, none, none, none]) rfl ?_
  unfold f_Md_table at hf
  have hf := (zif hf).2
  refine z_iload_n C d_Md_table_0 rfl (z_pc (pc' := 1) rfl ?_)
  refine z_if_lt (tgt := 9) C d_Md_table_1 (by decide) (fun c1 => ?_) (fun c1 => z_pc (pc' := 4) rfl ?_)
  · have hf := zpos c1 hf
    refine z_bipush C d_Md_table_9 (by decide) (z_pc (pc' := 11) rfl ?_)
    exact z_iret C hr (Nat.le_of_ble_eq_true rfl) (Nat.le_of_ble_eq_true rfl) d_Md_table_11 hf
  · have hf := zneg c1 hf
    refine z_iload_n C d_Md_table_4 rfl (z_pc (pc' := 5) rfl ?_)
    refine z_iconst C d_Md_table_5 (z_pc (pc' := 6) rfl ?_)
    refine z_icmp_le (tgt := 12) C d_Md_table_6 (by decide) (fun c2 => ?_) (fun c2 => z_pc (pc' := 9) rfl ?_)
    · have hf := zpos c2 hf
      refine z_aload_n C d_Md_table_12 rfl (z_pc (pc' := 13) rfl ?_)
      refine z_iload_n C d_Md_table_13 rfl (z_pc (pc' := 14) rfl ?_)
      obtain ⟨x5, M4, h3, hf⟩ := zb2_inv hf
      refine z_callV C [zi a1] [] kv_Md_190 (c_Md_tables D n0 l h3) (e_Md_tables h3) ⟨(Nat.le_of_ble_eq_true rfl), (Nat.le_of_ble_eq_true rfl)⟩ (Nat.le_of_ble_eq_true rfl) ⟨(Nat.le_of_ble_eq_true rfl), (Nat.le_of_ble_eq_true rfl)⟩ d_Md_table_14 (z_pc (pc' := 17) rfl ?_)
      refine z_istore C d_Md_table_17 (by decide) (z_pl (pc' := 19) (L' := [some (zv n0 a0), some (zi a1), some (zi a2), some (zi a3), some (zi x5), none, none, none]) rfl rfl ?_)
      refine z_iload_n C d_Md_table_19 rfl (z_pc (pc' := 20) rfl ?_)
      refine z_iconst C d_Md_table_20 (z_pc (pc' := 21) rfl ?_)
      refine z_icmp_ne (tgt := 27) C d_Md_table_21 (by decide) (fun c6 => ?_) (fun c6 => z_pc (pc' := 24) rfl ?_)
      · have hf := zneg c6 hf
        refine z_iload_n C d_Md_table_27 rfl (z_pc (pc' := 28) rfl ?_)
        refine z_if_lt (tgt := 37) C d_Md_table_28 (by decide) (fun c7 => ?_) (fun c7 => z_pc (pc' := 31) rfl ?_)
        · have hf := zpos c7 hf
          refine z_bipush C d_Md_table_37 (by decide) (z_pc (pc' := 39) rfl ?_)
          exact z_iret C hr (Nat.le_of_ble_eq_true rfl) (Nat.le_of_ble_eq_true rfl) d_Md_table_39 hf
        · have hf := zneg c7 hf
          refine z_iload_n C d_Md_table_31 rfl (z_pc (pc' := 32) rfl ?_)
          refine z_iload C d_Md_table_32 rfl (z_pc (pc' := 34) rfl ?_)
          refine z_icmp_lt (tgt := 40) C d_Md_table_34 (by decide) (fun c8 => ?_) (fun c8 => z_pc (pc' := 37) rfl ?_)
          · have hf := zpos c8 hf
            refine z_iconst C d_Md_table_40 (z_pc (pc' := 41) rfl ?_)
            refine z_istore C d_Md_table_41 (by decide) (z_pl (pc' := 43) (L' := [some (zv n0 a0), some (zi a1), some (zi a2), some (zi a3), some (zi x5), some (zi 0), none, none]) rfl rfl ?_)
            refine z_iconst C d_Md_table_43 (z_pc (pc' := 44) rfl ?_)
            refine z_istore C d_Md_table_44 (by decide) (z_pl (pc' := 46) (L' := [some (zv n0 a0), some (zi a1), some (zi a2), some (zi a3), some (zi x5), some (zi 0), some (zi 0), none]) rfl rfl ?_)
            refine z_iconst C d_Md_table_46 (z_pc (pc' := 47) rfl ?_)
            refine z_istore C d_Md_table_47 (by decide) (z_pl (pc' := 49) (L' := [some (zv n0 a0), some (zi a1), some (zi a2), some (zi a3), some (zi x5), some (zi 0), some (zi 0), some (zi 0)]) rfl rfl ?_)
            refine z_sub2 (w_Md_table_L49 C hr ?_ _ _ _ _ _ hf) (And.intro rfl (And.intro rfl (And.intro rfl (And.intro rfl (And.intro rfl (And.intro rfl (And.intro rfl trivial)))))))
            intro v25 v26 M27 hf
            refine z_iload_n C d_Md_table_107 rfl (z_pc (pc' := 108) rfl ?_)
            by_cases c28 : zeq a3 0
            · have hf := zpos c28 hf
              refine z_tswK (tgt := 144) (off := 36) C 0 d_Md_table_108 c28 (by decide) (by decide) (by decide +kernel) (by decide) ?_
              refine z_iload C d_Md_table_144 rfl (z_pc (pc' := 146) rfl ?_)
              exact z_iret C hr (Nat.le_of_ble_eq_true rfl) (Nat.le_of_ble_eq_true rfl) d_Md_table_146 hf
            · have hf := zneg c28 hf
              by_cases c29 : zeq a3 1
              · have hf := zpos c29 hf
                refine z_tswK (tgt := 147) (off := 39) C 1 d_Md_table_108 c29 (by decide) (by decide) (by decide +kernel) (by decide) ?_
                refine z_aload_n C d_Md_table_147 rfl (z_pc (pc' := 148) rfl ?_)
                refine z_iload_n C d_Md_table_148 rfl (z_pc (pc' := 149) rfl ?_)
                refine z_iload_n C d_Md_table_149 rfl (z_pc (pc' := 150) rfl ?_)
                obtain ⟨x32, M31, h30, hf⟩ := zb2_inv hf
                refine z_callV C [zi a1, zi a2] [] kv_Md_175 (c_Md_filter D n0 l h30) (e_Md_filter h30) ⟨(Nat.le_of_ble_eq_true rfl), (Nat.le_of_ble_eq_true rfl)⟩ (Nat.le_of_ble_eq_true rfl) ⟨(Nat.le_of_ble_eq_true rfl), (Nat.le_of_ble_eq_true rfl)⟩ d_Md_table_150 (z_pc (pc' := 153) rfl ?_)
                exact z_iret C hr (Nat.le_of_ble_eq_true rfl) (Nat.le_of_ble_eq_true rfl) d_Md_table_153 hf
              · have hf := zneg c29 hf
                by_cases c33 : zeq a3 2
                · have hf := zpos c33 hf
                  refine z_tswK (tgt := 154) (off := 46) C 2 d_Md_table_108 c33 (by decide) (by decide) (by decide +kernel) (by decide) ?_
                  refine z_aload_n C d_Md_table_154 rfl (z_pc (pc' := 155) rfl ?_)
                  refine z_iload_n C d_Md_table_155 rfl (z_pc (pc' := 156) rfl ?_)
                  refine z_iload_n C d_Md_table_156 rfl (z_pc (pc' := 157) rfl ?_)
                  refine z_iconst C d_Md_table_157 (z_pc (pc' := 158) rfl ?_)
                  obtain ⟨x36, M35, h34, hf⟩ := zb2_inv hf
                  refine z_callV C [zi a1, zi a2, zi 0] [] kv_Md_179 (c_Md_bound D n0 l h34) (e_Md_bound h34) ⟨(Nat.le_of_ble_eq_true rfl), (Nat.le_of_ble_eq_true rfl)⟩ (Nat.le_of_ble_eq_true rfl) ⟨(Nat.le_of_ble_eq_true rfl), (Nat.le_of_ble_eq_true rfl)⟩ d_Md_table_158 (z_pc (pc' := 161) rfl ?_)
                  exact z_iret C hr (Nat.le_of_ble_eq_true rfl) (Nat.le_of_ble_eq_true rfl) d_Md_table_161 hf
                · have hf := zneg c33 hf
                  by_cases c37 : zeq a3 3
                  · have hf := zpos c37 hf
                    refine z_tswK (tgt := 162) (off := 54) C 3 d_Md_table_108 c37 (by decide) (by decide) (by decide +kernel) (by decide) ?_
                    refine z_aload_n C d_Md_table_162 rfl (z_pc (pc' := 163) rfl ?_)
                    refine z_iload_n C d_Md_table_163 rfl (z_pc (pc' := 164) rfl ?_)
                    refine z_iload_n C d_Md_table_164 rfl (z_pc (pc' := 165) rfl ?_)
                    refine z_iconst C d_Md_table_165 (z_pc (pc' := 166) rfl ?_)
                    obtain ⟨x40, M39, h38, hf⟩ := zb2_inv hf
                    refine z_callV C [zi a1, zi a2, zi 1] [] kv_Md_179 (c_Md_bound D n0 l h38) (e_Md_bound h38) ⟨(Nat.le_of_ble_eq_true rfl), (Nat.le_of_ble_eq_true rfl)⟩ (Nat.le_of_ble_eq_true rfl) ⟨(Nat.le_of_ble_eq_true rfl), (Nat.le_of_ble_eq_true rfl)⟩ d_Md_table_166 (z_pc (pc' := 169) rfl ?_)
                    exact z_iret C hr (Nat.le_of_ble_eq_true rfl) (Nat.le_of_ble_eq_true rfl) d_Md_table_169 hf
                  · have hf := zneg c37 hf
                    by_cases c41 : zeq a3 4
                    · have hf := zpos c41 hf
                      refine z_tswK (tgt := 170) (off := 62) C 4 d_Md_table_108 c41 (by decide) (by decide) (by decide +kernel) (by decide) ?_
                      refine z_iload C d_Md_table_170 rfl (z_pc (pc' := 172) rfl ?_)
                      exact z_iret C hr (Nat.le_of_ble_eq_true rfl) (Nat.le_of_ble_eq_true rfl) d_Md_table_172 hf
                    · have hf := zneg c41 hf
                      refine z_tswD (tgt := 173) C d_Md_table_108 (fun t t1 t2 => by rcases (show t = 0 ∨ t = 1 ∨ t = 2 ∨ t = 3 ∨ t = 4 by omega) with rfl | rfl | rfl | rfl | rfl <;> assumption) (by decide) ?_
                      refine z_bipush C d_Md_table_173 (by decide) (z_pc (pc' := 175) rfl ?_)
                      exact z_iret C hr (Nat.le_of_ble_eq_true rfl) (Nat.le_of_ble_eq_true rfl) d_Md_table_175 hf
          · have hf := zneg c8 hf
            refine z_bipush C d_Md_table_37 (by decide) (z_pc (pc' := 39) rfl ?_)
            exact z_iret C hr (Nat.le_of_ble_eq_true rfl) (Nat.le_of_ble_eq_true rfl) d_Md_table_39 hf
      · have hf := zpos c6 hf
        refine z_iload C d_Md_table_24 rfl (z_pc (pc' := 26) rfl ?_)
        exact z_iret C hr (Nat.le_of_ble_eq_true rfl) (Nat.le_of_ble_eq_true rfl) d_Md_table_26 hf
    · have hf := zneg c2 hf
      refine z_bipush C d_Md_table_9 (by decide) (z_pc (pc' := 11) rfl ?_)
      exact z_iret C hr (Nat.le_of_ble_eq_true rfl) (Nat.le_of_ble_eq_true rfl) d_Md_table_11 hf
theorem e_Md_segment {a0 : Nat} {a1 : Int} {a2 : Int} {M : zHp} {q : Int × zHp} (hf : f_Md_segment a0 a1 a2 M = some q) : zk M a0 = 8 := by
  unfold f_Md_segment at hf
  exact (zif hf).1
set_option maxHeartbeats 4000000 in
set_option maxRecDepth 100000 in
theorem c_Md_segment (D : va_G) (n0 : Nat) (l : Launch) {a0 : Nat} {a1 : Int} {a2 : Int} {M : zHp} {r : Int} {M' : zHp} (hf : f_Md_segment a0 a1 a2 M = some (r, M')) : zM D n0 l y_Md_segment b_Md_segment 4 (some .int) 2 45 0 0 [zv n0 a0, zi a1, zi a2] M (some (zi r)) M' := by
  refine zM.ofZ (by decide) (zcr (zci (zci zcn))) (Nat.le_of_ble_eq_true rfl) ?_
  intro p e s m below meth c C hr hnm
  have C : zC D n0 p s m meth c b_Md_segment 4 "LayerVaultModel" := C
  refine z_eqL (L' := [some (zv n0 a0), some (zi a1), some (zi a2), none]) rfl ?_
  unfold f_Md_segment at hf
  have hf := (zif hf).2
  refine z_aload_n C d_Md_segment_0 rfl (z_pc (pc' := 1) rfl ?_)
  obtain ⟨x1, h2, hf⟩ := zbind hf
  refine z_geti C fl_Md_128 h2 d_Md_segment_1 (z_pc (pc' := 4) rfl ?_)
  refine z_aload_n C d_Md_segment_4 rfl (z_pc (pc' := 5) rfl ?_)
  obtain ⟨x3, h4, hf⟩ := zbind hf
  refine z_geti C fl_Md_144 h4 d_Md_segment_5 (z_pc (pc' := 8) rfl ?_)
  refine z_isub C d_Md_segment_8 (z_pc (pc' := 9) rfl ?_)
  refine z_iconst C d_Md_segment_9 (z_pc (pc' := 10) rfl ?_)
  refine z_iadd C d_Md_segment_10 (z_pc (pc' := 11) rfl ?_)
  refine z_istore_n C d_Md_segment_11 (by decide) (z_pl (pc' := 12) (L' := [some (zv n0 a0), some (zi a1), some (zi a2), some (zi (zadd (zsub x1 x3) 1))]) rfl rfl ?_)
  refine z_iload_n C d_Md_segment_12 rfl (z_pc (pc' := 13) rfl ?_)
  refine z_iconst C d_Md_segment_13 (z_pc (pc' := 14) rfl ?_)
  refine z_icmp_ne (tgt := 19) C d_Md_segment_14 (by decide) (fun c5 => ?_) (fun c5 => z_pc (pc' := 17) rfl ?_)
  · have hf := zneg c5 hf
    refine z_iload_n C d_Md_segment_19 rfl (z_pc (pc' := 20) rfl ?_)
    refine z_if_lt (tgt := 28) C d_Md_segment_20 (by decide) (fun c6 => ?_) (fun c6 => z_pc (pc' := 23) rfl ?_)
    · have hf := zpos c6 hf
      refine z_bipush C d_Md_segment_28 (by decide) (z_pc (pc' := 30) rfl ?_)
      exact z_iret C hr (Nat.le_of_ble_eq_true rfl) (Nat.le_of_ble_eq_true rfl) d_Md_segment_30 hf
    · have hf := zneg c6 hf
      refine z_iload_n C d_Md_segment_23 rfl (z_pc (pc' := 24) rfl ?_)
      refine z_iload_n C d_Md_segment_24 rfl (z_pc (pc' := 25) rfl ?_)
      refine z_icmp_lt (tgt := 31) C d_Md_segment_25 (by decide) (fun c7 => ?_) (fun c7 => z_pc (pc' := 28) rfl ?_)
      · have hf := zpos c7 hf
        refine z_iload_n C d_Md_segment_31 rfl (z_pc (pc' := 32) rfl ?_)
        by_cases c8 : zeq a2 0
        · have hf := zpos c8 hf
          refine z_tswK (tgt := 60) (off := 28) C 0 d_Md_segment_32 c8 (by decide) (by decide) (by decide +kernel) (by decide) ?_
          refine z_aload_n C d_Md_segment_60 rfl (z_pc (pc' := 61) rfl ?_)
          obtain ⟨x9, h10, hf⟩ := zbind hf
          refine z_geti C fl_Md_144 h10 d_Md_segment_61 (z_pc (pc' := 64) rfl ?_)
          refine z_iload_n C d_Md_segment_64 rfl (z_pc (pc' := 65) rfl ?_)
          refine z_iadd C d_Md_segment_65 (z_pc (pc' := 66) rfl ?_)
          exact z_iret C hr (Nat.le_of_ble_eq_true rfl) (Nat.le_of_ble_eq_true rfl) d_Md_segment_66 hf
        · have hf := zneg c8 hf
          by_cases c11 : zeq a2 1
          · have hf := zpos c11 hf
            refine z_tswK (tgt := 67) (off := 35) C 1 d_Md_segment_32 c11 (by decide) (by decide) (by decide +kernel) (by decide) ?_
            refine z_aload_n C d_Md_segment_67 rfl (z_pc (pc' := 68) rfl ?_)
            obtain ⟨x12, h13, hf⟩ := zbind hf
            refine z_getr C fl_Md_59 rfl h13 d_Md_segment_68 (z_pc (pc' := 71) rfl ?_)
            refine z_aload_n C d_Md_segment_71 rfl (z_pc (pc' := 72) rfl ?_)
            obtain ⟨x14, h15, hf⟩ := zbind hf
            refine z_geti C fl_Md_144 h15 d_Md_segment_72 (z_pc (pc' := 75) rfl ?_)
            refine z_iload_n C d_Md_segment_75 rfl (z_pc (pc' := 76) rfl ?_)
            refine z_iadd C d_Md_segment_76 (z_pc (pc' := 77) rfl ?_)
            refine z_bipush C d_Md_segment_77 (by decide) (z_pc (pc' := 79) rfl ?_)
            refine z_irem C (by decide) d_Md_segment_79 (z_pc (pc' := 80) rfl ?_)
            obtain ⟨x16, h17, hf⟩ := zbind hf
            refine z_iald C h17 d_Md_segment_80 (z_pc (pc' := 81) rfl ?_)
            exact z_iret C hr (Nat.le_of_ble_eq_true rfl) (Nat.le_of_ble_eq_true rfl) d_Md_segment_81 hf
          · have hf := zneg c11 hf
            by_cases c18 : zeq a2 2
            · have hf := zpos c18 hf
              refine z_tswK (tgt := 82) (off := 50) C 2 d_Md_segment_32 c18 (by decide) (by decide) (by decide +kernel) (by decide) ?_
              refine z_aload_n C d_Md_segment_82 rfl (z_pc (pc' := 83) rfl ?_)
              refine z_aload_n C d_Md_segment_83 rfl (z_pc (pc' := 84) rfl ?_)
              obtain ⟨x19, h20, hf⟩ := zbind hf
              refine z_geti C fl_Md_144 h20 d_Md_segment_84 (z_pc (pc' := 87) rfl ?_)
              refine z_iload_n C d_Md_segment_87 rfl (z_pc (pc' := 88) rfl ?_)
              refine z_iadd C d_Md_segment_88 (z_pc (pc' := 89) rfl ?_)
              obtain ⟨x23, M22, h21, hf⟩ := zb2_inv hf
              refine z_callV C [zi (zadd x19 a1)] [] kv_Md_156 (c_Md_liveIn D n0 l h21) (e_Md_liveIn h21) ⟨(Nat.le_of_ble_eq_true rfl), (Nat.le_of_ble_eq_true rfl)⟩ (Nat.le_of_ble_eq_true rfl) ⟨(Nat.le_of_ble_eq_true rfl), (Nat.le_of_ble_eq_true rfl)⟩ d_Md_segment_89 (z_pc (pc' := 92) rfl ?_)
              exact z_iret C hr (Nat.le_of_ble_eq_true rfl) (Nat.le_of_ble_eq_true rfl) d_Md_segment_92 hf
            · have hf := zneg c18 hf
              refine z_tswD (tgt := 93) C d_Md_segment_32 (fun t t1 t2 => by rcases (show t = 0 ∨ t = 1 ∨ t = 2 by omega) with rfl | rfl | rfl <;> assumption) (by decide) ?_
              refine z_bipush C d_Md_segment_93 (by decide) (z_pc (pc' := 95) rfl ?_)
              exact z_iret C hr (Nat.le_of_ble_eq_true rfl) (Nat.le_of_ble_eq_true rfl) d_Md_segment_95 hf
      · have hf := zneg c7 hf
        refine z_bipush C d_Md_segment_28 (by decide) (z_pc (pc' := 30) rfl ?_)
        exact z_iret C hr (Nat.le_of_ble_eq_true rfl) (Nat.le_of_ble_eq_true rfl) d_Md_segment_30 hf
  · have hf := zpos c5 hf
    refine z_iload_n C d_Md_segment_17 rfl (z_pc (pc' := 18) rfl ?_)
    exact z_iret C hr (Nat.le_of_ble_eq_true rfl) (Nat.le_of_ble_eq_true rfl) d_Md_segment_18 hf
theorem e_Md_look {a0 : Nat} {a1 : Int} {M : zHp} {q : Int × zHp} (hf : f_Md_look a0 a1 M = some q) : zk M a0 = 8 := by
  unfold f_Md_look at hf
  exact (zif hf).1
set_option maxHeartbeats 4000000 in
set_option maxRecDepth 100000 in
theorem c_Md_look (D : va_G) (n0 : Nat) (l : Launch) {a0 : Nat} {a1 : Int} {M : zHp} {r : Int} {M' : zHp} (hf : f_Md_look a0 a1 M = some (r, M')) : zM D n0 l y_Md_look b_Md_look 2 (some .int) 1 23 0 0 [zv n0 a0, zi a1] M (some (zi r)) M' := by
  refine zM.ofZ (by decide) (zcr (zci zcn)) (Nat.le_of_ble_eq_true rfl) ?_
  intro p e s m below meth c C hr hnm
  have C : zC D n0 p s m meth c b_Md_look 2 "LayerVaultModel" := C
  refine z_eqL (L' := [some (zv n0 a0), some (zi a1)]) rfl ?_
  unfold f_Md_look at hf
  have hf := (zif hf).2
  refine z_iload_n C d_Md_look_0 rfl (z_pc (pc' := 1) rfl ?_)
  by_cases c1 : zeq a1 0
  · have hf := zpos c1 hf
    refine z_tswK (tgt := 36) (off := 35) C 0 d_Md_look_1 c1 (by decide) (by decide) (by decide +kernel) (by decide) ?_
    refine z_aload_n C d_Md_look_36 rfl (z_pc (pc' := 37) rfl ?_)
    refine z_iconst C d_Md_look_37 (z_pc (pc' := 38) rfl ?_)
    obtain ⟨x4, M3, h2, hf⟩ := zb2_inv hf
    refine z_callV C [zi (-1)] [] kv_Md_109 (c_Md_size D n0 l h2) (e_Md_size h2) ⟨(Nat.le_of_ble_eq_true rfl), (Nat.le_of_ble_eq_true rfl)⟩ (Nat.le_of_ble_eq_true rfl) ⟨(Nat.le_of_ble_eq_true rfl), (Nat.le_of_ble_eq_true rfl)⟩ d_Md_look_38 (z_pc (pc' := 41) rfl ?_)
    exact z_iret C hr (Nat.le_of_ble_eq_true rfl) (Nat.le_of_ble_eq_true rfl) d_Md_look_41 hf
  · have hf := zneg c1 hf
    by_cases c5 : zeq a1 1
    · have hf := zpos c5 hf
      refine z_tswK (tgt := 42) (off := 41) C 1 d_Md_look_1 c5 (by decide) (by decide) (by decide +kernel) (by decide) ?_
      refine z_aload_n C d_Md_look_42 rfl (z_pc (pc' := 43) rfl ?_)
      obtain ⟨x6, h7, hf⟩ := zbind hf
      refine z_geti C fl_Md_89 h7 d_Md_look_43 (z_pc (pc' := 46) rfl ?_)
      exact z_iret C hr (Nat.le_of_ble_eq_true rfl) (Nat.le_of_ble_eq_true rfl) d_Md_look_46 hf
    · have hf := zneg c5 hf
      by_cases c8 : zeq a1 2
      · have hf := zpos c8 hf
        refine z_tswK (tgt := 47) (off := 46) C 2 d_Md_look_1 c8 (by decide) (by decide) (by decide +kernel) (by decide) ?_
        refine z_aload_n C d_Md_look_47 rfl (z_pc (pc' := 48) rfl ?_)
        obtain ⟨x9, h10, hf⟩ := zbind hf
        refine z_geti C fl_Md_125 h10 d_Md_look_48 (z_pc (pc' := 51) rfl ?_)
        exact z_iret C hr (Nat.le_of_ble_eq_true rfl) (Nat.le_of_ble_eq_true rfl) d_Md_look_51 hf
      · have hf := zneg c8 hf
        by_cases c11 : zeq a1 3
        · have hf := zpos c11 hf
          refine z_tswK (tgt := 52) (off := 51) C 3 d_Md_look_1 c11 (by decide) (by decide) (by decide +kernel) (by decide) ?_
          refine z_aload_n C d_Md_look_52 rfl (z_pc (pc' := 53) rfl ?_)
          obtain ⟨x12, h13, hf⟩ := zbind hf
          refine z_geti C fl_Md_134 h13 d_Md_look_53 (z_pc (pc' := 56) rfl ?_)
          exact z_iret C hr (Nat.le_of_ble_eq_true rfl) (Nat.le_of_ble_eq_true rfl) d_Md_look_56 hf
        · have hf := zneg c11 hf
          by_cases c14 : zeq a1 4
          · have hf := zpos c14 hf
            refine z_tswK (tgt := 57) (off := 56) C 4 d_Md_look_1 c14 (by decide) (by decide) (by decide +kernel) (by decide) ?_
            refine z_aload_n C d_Md_look_57 rfl (z_pc (pc' := 58) rfl ?_)
            obtain ⟨x15, h16, hf⟩ := zbind hf
            refine z_getr C fl_Md_53 rfl h16 d_Md_look_58 (z_pc (pc' := 61) rfl ?_)
            refine z_iconst C d_Md_look_61 (z_pc (pc' := 62) rfl ?_)
            obtain ⟨x17, h18, hf⟩ := zbind hf
            refine z_bald C h18 d_Md_look_62 (z_pc (pc' := 63) rfl ?_)
            refine z_if_eq (tgt := 70) C d_Md_look_63 (by decide) (fun c19 => ?_) (fun c19 => z_pc (pc' := 66) rfl ?_)
            · have hf := zpos c19 hf
              refine z_iconst C d_Md_look_70 (z_pc (pc' := 71) rfl ?_)
              refine z_aload_n C d_Md_look_71 rfl (z_pc (pc' := 72) rfl ?_)
              obtain ⟨x20, h21, hf⟩ := zbind hf
              refine z_getr C fl_Md_53 rfl h21 d_Md_look_72 (z_pc (pc' := 75) rfl ?_)
              refine z_iconst C d_Md_look_75 (z_pc (pc' := 76) rfl ?_)
              obtain ⟨x22, h23, hf⟩ := zbind hf
              refine z_bald C h23 d_Md_look_76 (z_pc (pc' := 77) rfl ?_)
              refine z_if_eq (tgt := 84) C d_Md_look_77 (by decide) (fun c24 => ?_) (fun c24 => z_pc (pc' := 80) rfl ?_)
              · have hf := zpos c24 hf
                refine z_iconst C d_Md_look_84 (z_pc (pc' := 85) rfl ?_)
                refine z_iadd C d_Md_look_85 (z_pc (pc' := 86) rfl ?_)
                refine z_aload_n C d_Md_look_86 rfl (z_pc (pc' := 87) rfl ?_)
                obtain ⟨x25, h26, hf⟩ := zbind hf
                refine z_getr C fl_Md_53 rfl h26 d_Md_look_87 (z_pc (pc' := 90) rfl ?_)
                refine z_iconst C d_Md_look_90 (z_pc (pc' := 91) rfl ?_)
                obtain ⟨x27, h28, hf⟩ := zbind hf
                refine z_bald C h28 d_Md_look_91 (z_pc (pc' := 92) rfl ?_)
                refine z_if_eq (tgt := 99) C d_Md_look_92 (by decide) (fun c29 => ?_) (fun c29 => z_pc (pc' := 95) rfl ?_)
                · have hf := zpos c29 hf
                  refine z_iconst C d_Md_look_99 (z_pc (pc' := 100) rfl ?_)
                  refine z_iadd C d_Md_look_100 (z_pc (pc' := 101) rfl ?_)
                  exact z_iret C hr (Nat.le_of_ble_eq_true rfl) (Nat.le_of_ble_eq_true rfl) d_Md_look_101 hf
                · have hf := zneg c29 hf
                  refine z_iconst C d_Md_look_95 (z_pc (pc' := 96) rfl ?_)
                  refine z_goto (tgt := 100) C d_Md_look_96 (by decide) ?_
                  refine z_iadd C d_Md_look_100 (z_pc (pc' := 101) rfl ?_)
                  exact z_iret C hr (Nat.le_of_ble_eq_true rfl) (Nat.le_of_ble_eq_true rfl) d_Md_look_101 hf
              · have hf := zneg c24 hf
                refine z_iconst C d_Md_look_80 (z_pc (pc' := 81) rfl ?_)
                refine z_goto (tgt := 85) C d_Md_look_81 (by decide) ?_
                refine z_iadd C d_Md_look_85 (z_pc (pc' := 86) rfl ?_)
                refine z_aload_n C d_Md_look_86 rfl (z_pc (pc' := 87) rfl ?_)
                obtain ⟨x30, h31, hf⟩ := zbind hf
                refine z_getr C fl_Md_53 rfl h31 d_Md_look_87 (z_pc (pc' := 90) rfl ?_)
                refine z_iconst C d_Md_look_90 (z_pc (pc' := 91) rfl ?_)
                obtain ⟨x32, h33, hf⟩ := zbind hf
                refine z_bald C h33 d_Md_look_91 (z_pc (pc' := 92) rfl ?_)
                refine z_if_eq (tgt := 99) C d_Md_look_92 (by decide) (fun c34 => ?_) (fun c34 => z_pc (pc' := 95) rfl ?_)
                · have hf := zpos c34 hf
                  refine z_iconst C d_Md_look_99 (z_pc (pc' := 100) rfl ?_)
                  refine z_iadd C d_Md_look_100 (z_pc (pc' := 101) rfl ?_)
                  exact z_iret C hr (Nat.le_of_ble_eq_true rfl) (Nat.le_of_ble_eq_true rfl) d_Md_look_101 hf
                · have hf := zneg c34 hf
                  refine z_iconst C d_Md_look_95 (z_pc (pc' := 96) rfl ?_)
                  refine z_goto (tgt := 100) C d_Md_look_96 (by decide) ?_
                  refine z_iadd C d_Md_look_100 (z_pc (pc' := 101) rfl ?_)
                  exact z_iret C hr (Nat.le_of_ble_eq_true rfl) (Nat.le_of_ble_eq_true rfl) d_Md_look_101 hf
            · have hf := zneg c19 hf
              refine z_iconst C d_Md_look_66 (z_pc (pc' := 67) rfl ?_)
              refine z_goto (tgt := 71) C d_Md_look_67 (by decide) ?_
              refine z_aload_n C d_Md_look_71 rfl (z_pc (pc' := 72) rfl ?_)
              obtain ⟨x35, h36, hf⟩ := zbind hf
              refine z_getr C fl_Md_53 rfl h36 d_Md_look_72 (z_pc (pc' := 75) rfl ?_)
              refine z_iconst C d_Md_look_75 (z_pc (pc' := 76) rfl ?_)
              obtain ⟨x37, h38, hf⟩ := zbind hf
              refine z_bald C h38 d_Md_look_76 (z_pc (pc' := 77) rfl ?_)
              refine z_if_eq (tgt := 84) C d_Md_look_77 (by decide) (fun c39 => ?_) (fun c39 => z_pc (pc' := 80) rfl ?_)
              · have hf := zpos c39 hf
                refine z_iconst C d_Md_look_84 (z_pc (pc' := 85) rfl ?_)
                refine z_iadd C d_Md_look_85 (z_pc (pc' := 86) rfl ?_)
                refine z_aload_n C d_Md_look_86 rfl (z_pc (pc' := 87) rfl ?_)
                obtain ⟨x40, h41, hf⟩ := zbind hf
                refine z_getr C fl_Md_53 rfl h41 d_Md_look_87 (z_pc (pc' := 90) rfl ?_)
                refine z_iconst C d_Md_look_90 (z_pc (pc' := 91) rfl ?_)
                obtain ⟨x42, h43, hf⟩ := zbind hf
                refine z_bald C h43 d_Md_look_91 (z_pc (pc' := 92) rfl ?_)
                refine z_if_eq (tgt := 99) C d_Md_look_92 (by decide) (fun c44 => ?_) (fun c44 => z_pc (pc' := 95) rfl ?_)
                · have hf := zpos c44 hf
                  refine z_iconst C d_Md_look_99 (z_pc (pc' := 100) rfl ?_)
                  refine z_iadd C d_Md_look_100 (z_pc (pc' := 101) rfl ?_)
                  exact z_iret C hr (Nat.le_of_ble_eq_true rfl) (Nat.le_of_ble_eq_true rfl) d_Md_look_101 hf
                · have hf := zneg c44 hf
                  refine z_iconst C d_Md_look_95 (z_pc (pc' := 96) rfl ?_)
                  refine z_goto (tgt := 100) C d_Md_look_96 (by decide) ?_
                  refine z_iadd C d_Md_look_100 (z_pc (pc' := 101) rfl ?_)
                  exact z_iret C hr (Nat.le_of_ble_eq_true rfl) (Nat.le_of_ble_eq_true rfl) d_Md_look_101 hf
              · have hf := zneg c39 hf
                refine z_iconst C d_Md_look_80 (z_pc (pc' := 81) rfl ?_)
                refine z_goto (tgt := 85) C d_Md_look_81 (by decide) ?_
                refine z_iadd C d_Md_look_85 (z_pc (pc' := 86) rfl ?_)
                refine z_aload_n C d_Md_look_86 rfl (z_pc (pc' := 87) rfl ?_)
                obtain ⟨x45, h46, hf⟩ := zbind hf
                refine z_getr C fl_Md_53 rfl h46 d_Md_look_87 (z_pc (pc' := 90) rfl ?_)
                refine z_iconst C d_Md_look_90 (z_pc (pc' := 91) rfl ?_)
                obtain ⟨x47, h48, hf⟩ := zbind hf
                refine z_bald C h48 d_Md_look_91 (z_pc (pc' := 92) rfl ?_)
                refine z_if_eq (tgt := 99) C d_Md_look_92 (by decide) (fun c49 => ?_) (fun c49 => z_pc (pc' := 95) rfl ?_)
                · have hf := zpos c49 hf
                  refine z_iconst C d_Md_look_99 (z_pc (pc' := 100) rfl ?_)
                  refine z_iadd C d_Md_look_100 (z_pc (pc' := 101) rfl ?_)
                  exact z_iret C hr (Nat.le_of_ble_eq_true rfl) (Nat.le_of_ble_eq_true rfl) d_Md_look_101 hf
                · have hf := zneg c49 hf
                  refine z_iconst C d_Md_look_95 (z_pc (pc' := 96) rfl ?_)
                  refine z_goto (tgt := 100) C d_Md_look_96 (by decide) ?_
                  refine z_iadd C d_Md_look_100 (z_pc (pc' := 101) rfl ?_)
                  exact z_iret C hr (Nat.le_of_ble_eq_true rfl) (Nat.le_of_ble_eq_true rfl) d_Md_look_101 hf
          · have hf := zneg c14 hf
            refine z_tswD (tgt := 102) C d_Md_look_1 (fun t t1 t2 => by rcases (show t = 0 ∨ t = 1 ∨ t = 2 ∨ t = 3 ∨ t = 4 by omega) with rfl | rfl | rfl | rfl | rfl <;> assumption) (by decide) ?_
            refine z_bipush C d_Md_look_102 (by decide) (z_pc (pc' := 104) rfl ?_)
            exact z_iret C hr (Nat.le_of_ble_eq_true rfl) (Nat.le_of_ble_eq_true rfl) d_Md_look_104 hf
