set_option maxHeartbeats 4000000 in
set_option maxRecDepth 100000 in
theorem w_Law_law_L18 {D : va_G} {n0 : Nat} {l : Launch} {p : Program} {e : Env} {s : State} {m : MethodId} {below : List Frame} {meth : Method} {c : Code} {b Ls : Nat} {xs : Nat → Int} {B Bs : Nat} {a1 : Nat} {a2 : Nat} {M' : zHp} {κ : zHp → Option (Int × zHp)} (C : zC D n0 p s m meth c code 4 "LayerVaultLaw") (hr : meth.sig.returnType = ret) (hn1 : s.heap.size ≤ n0) (hbl : b < n0) (hL : Ls ≤ 2048) (hX : va_X b Ls (fun j => Int32.ofInt (xs j)) s s.heap) (hB : B ≤ 600000) (hBs : Bs ≤ 7302250)
    (hκ : ∀ (M1 : zHp), κ M1 = some (1, M') → zZ D n0 p l e room_1 s m #[Value.ref b] below meth c 4 B Bs (lw_Z below #[Value.ref b] s) 570 [none, none, none, none] [] M1) :
    ∀ (n cells slots : Nat), cells + n * 1134 ≤ B → slots + n * 5670 ≤ Bs → ∀ (v3 : Int) (M : zHp), f_Law_law_L18 Ls xs κ a1 a2 n v3 M = some (1, M') → zZ D n0 p l e room_1 s m #[Value.ref b] below meth c 4 cells slots (lw_Z below #[Value.ref b] s) 18 [some (.ref b), some (zv n0 a1), some (zv n0 a2), some (zi v3)] [] M := by
  intro n
  induction n with
  | zero =>
    intro cells slots hb1 hb2 v3 M hf
    exact absurd hf (by unfold f_Law_law_L18; simp)
  | succ n ih =>
    intro cells slots hb1 hb2 v3 M hf
    unfold f_Law_law_L18 at hf
    refine z_iload_n C d_Law_law_18 rfl (z_pc (pc' := 19) rfl ?_)
    refine z_xload_n C d_Law_law_19 rfl (z_pc (pc' := 20) rfl ?_)
    refine z_slen C hX hbl d_Law_law_20 (z_pc (pc' := 21) rfl ?_)
    refine z_iconst C d_Law_law_21 (z_pc (pc' := 22) rfl ?_)
    refine z_isub C d_Law_law_22 (z_pc (pc' := 23) rfl ?_)
    refine z_icmp_gt (tgt := 570) C d_Law_law_23 (by decide) (fun c13 => ?_) (fun c13 => z_pc (pc' := 26) rfl ?_)
    · have hf := zpos c13 hf
      exact z_widen (by omega) (by omega) (z_sub2 (hκ _ hf) trivial)
    · have hf := zneg c13 hf
      refine z_xload_n C d_Law_law_26 rfl (z_pc (pc' := 27) rfl ?_)
      refine z_iload_n C d_Law_law_27 rfl (z_pc (pc' := 28) rfl ?_)
      obtain ⟨x14, h15, hf⟩ := zbind hf
      refine z_sld C hX hbl hL h15 d_Law_law_28 (z_pc (pc' := 29) rfl ?_)
      refine z_bipush C d_Law_law_29 (by decide) (z_pc (pc' := 31) rfl ?_)
      refine z_iand C d_Law_law_31 (z_pc (pc' := 32) rfl ?_)
      by_cases c16 : zeq (zand x14 31) 0
      · have hf := zpos c16 hf
        refine z_tswK (tgt := 120) (off := 88) C 0 d_Law_law_32 c16 (by decide) (by decide) (by decide +kernel) (by decide) ?_
        refine z_aload_n C d_Law_law_120 rfl (z_pc (pc' := 121) rfl ?_)
        refine z_xload_n C d_Law_law_121 rfl (z_pc (pc' := 122) rfl ?_)
        refine z_iload_n C d_Law_law_122 rfl (z_pc (pc' := 123) rfl ?_)
        refine z_iconst C d_Law_law_123 (z_pc (pc' := 124) rfl ?_)
        refine z_iadd C d_Law_law_124 (z_pc (pc' := 125) rfl ?_)
        obtain ⟨x17, h18, hf⟩ := zbind hf
        refine z_sld C hX hbl hL h18 d_Law_law_125 (z_pc (pc' := 126) rfl ?_)
        refine z_xload_n C d_Law_law_126 rfl (z_pc (pc' := 127) rfl ?_)
        refine z_iload_n C d_Law_law_127 rfl (z_pc (pc' := 128) rfl ?_)
        refine z_iconst C d_Law_law_128 (z_pc (pc' := 129) rfl ?_)
        refine z_iadd C d_Law_law_129 (z_pc (pc' := 130) rfl ?_)
        obtain ⟨x19, h20, hf⟩ := zbind hf
        refine z_sld C hX hbl hL h20 d_Law_law_130 (z_pc (pc' := 131) rfl ?_)
        refine z_xload_n C d_Law_law_131 rfl (z_pc (pc' := 132) rfl ?_)
        refine z_iload_n C d_Law_law_132 rfl (z_pc (pc' := 133) rfl ?_)
        refine z_iconst C d_Law_law_133 (z_pc (pc' := 134) rfl ?_)
        refine z_iadd C d_Law_law_134 (z_pc (pc' := 135) rfl ?_)
        obtain ⟨x21, h22, hf⟩ := zbind hf
        refine z_sld C hX hbl hL h22 d_Law_law_135 (z_pc (pc' := 136) rfl ?_)
        obtain ⟨x25, M24, h23, hf⟩ := zb2_inv hf
        refine z_callV C [zi x17, zi x19, zi x21] [] kv_Law_13 (c_V_put D n0 l h23) (e_V_put h23) ⟨(Nat.le_of_ble_eq_true rfl), (Nat.le_of_ble_eq_true rfl)⟩ (Nat.le_of_ble_eq_true rfl) ⟨(by show cells + 0 ≤ 600000; omega), (by show slots + 0 ≤ 7302250; omega)⟩ d_Law_law_136 (z_pc (pc' := 139) rfl ?_)
        refine z_aload_n C d_Law_law_139 rfl (z_pc (pc' := 140) rfl ?_)
        refine z_xload_n C d_Law_law_140 rfl (z_pc (pc' := 141) rfl ?_)
        refine z_iload_n C d_Law_law_141 rfl (z_pc (pc' := 142) rfl ?_)
        refine z_iconst C d_Law_law_142 (z_pc (pc' := 143) rfl ?_)
        refine z_iadd C d_Law_law_143 (z_pc (pc' := 144) rfl ?_)
        obtain ⟨x26, h27, hf⟩ := zbind hf
        refine z_sld C hX hbl hL h27 d_Law_law_144 (z_pc (pc' := 145) rfl ?_)
        refine z_xload_n C d_Law_law_145 rfl (z_pc (pc' := 146) rfl ?_)
        refine z_iload_n C d_Law_law_146 rfl (z_pc (pc' := 147) rfl ?_)
        refine z_iconst C d_Law_law_147 (z_pc (pc' := 148) rfl ?_)
        refine z_iadd C d_Law_law_148 (z_pc (pc' := 149) rfl ?_)
        obtain ⟨x28, h29, hf⟩ := zbind hf
        refine z_sld C hX hbl hL h29 d_Law_law_149 (z_pc (pc' := 150) rfl ?_)
        refine z_xload_n C d_Law_law_150 rfl (z_pc (pc' := 151) rfl ?_)
        refine z_iload_n C d_Law_law_151 rfl (z_pc (pc' := 152) rfl ?_)
        refine z_iconst C d_Law_law_152 (z_pc (pc' := 153) rfl ?_)
        refine z_iadd C d_Law_law_153 (z_pc (pc' := 154) rfl ?_)
        obtain ⟨x30, h31, hf⟩ := zbind hf
        refine z_sld C hX hbl hL h31 d_Law_law_154 (z_pc (pc' := 155) rfl ?_)
        obtain ⟨x34, M33, h32, hf⟩ := zb2_inv hf
        refine z_callV C [zi x26, zi x28, zi x30] [zi x25] kv_Law_17 (c_Md_put D n0 l h32) (e_Md_put h32) ⟨(Nat.le_of_ble_eq_true rfl), (Nat.le_of_ble_eq_true rfl)⟩ (Nat.le_of_ble_eq_true rfl) ⟨(by show cells + 0 ≤ 600000; omega), (by show slots + 0 ≤ 7302250; omega)⟩ d_Law_law_155 (z_pc (pc' := 158) rfl ?_)
        refine z_icmp_eq (tgt := 564) C d_Law_law_158 (by decide) (fun c35 => ?_) (fun c35 => z_pc (pc' := 161) rfl ?_)
        · have hf := zpos c35 hf
          refine z_iinc C d_Law_law_564 rfl (by decide) (z_pl (pc' := 567) (L' := [some (.ref b), some (zv n0 a1), some (zv n0 a2), some (zi (zadd v3 4))]) rfl rfl ?_)
          refine z_goto (tgt := 18) C d_Law_law_567 (by decide) ?_
          exact z_widen (k := cells + 1134) (n := slots + 5670) (by omega) (by omega) (z_sub2 (ih (cells + 1134) (slots + 5670) (by omega) (by omega) _ _ hf) (And.intro rfl (And.intro rfl (And.intro rfl (And.intro rfl trivial)))))
        · have hf := zneg c35 hf
          refine z_iconst C d_Law_law_161 (z_pc (pc' := 162) rfl ?_)
          exact absurd hf (by simp)
      · have hf := zneg c16 hf
        by_cases c36 : zeq (zand x14 31) 1
        · have hf := zpos c36 hf
          refine z_tswK (tgt := 163) (off := 131) C 1 d_Law_law_32 c36 (by decide) (by decide) (by decide +kernel) (by decide) ?_
          refine z_aload_n C d_Law_law_163 rfl (z_pc (pc' := 164) rfl ?_)
          refine z_xload_n C d_Law_law_164 rfl (z_pc (pc' := 165) rfl ?_)
          refine z_iload_n C d_Law_law_165 rfl (z_pc (pc' := 166) rfl ?_)
          refine z_iconst C d_Law_law_166 (z_pc (pc' := 167) rfl ?_)
          refine z_iadd C d_Law_law_167 (z_pc (pc' := 168) rfl ?_)
          obtain ⟨x37, h38, hf⟩ := zbind hf
          refine z_sld C hX hbl hL h38 d_Law_law_168 (z_pc (pc' := 169) rfl ?_)
          obtain ⟨x41, M40, h39, hf⟩ := zb2_inv hf
          refine z_callV C [zi x37] [] kv_Law_18 (c_V_delete D n0 l h39) (e_V_delete h39) ⟨(Nat.le_of_ble_eq_true rfl), (Nat.le_of_ble_eq_true rfl)⟩ (Nat.le_of_ble_eq_true rfl) ⟨(by show cells + 0 ≤ 600000; omega), (by show slots + 0 ≤ 7302250; omega)⟩ d_Law_law_169 (z_pc (pc' := 172) rfl ?_)
          refine z_aload_n C d_Law_law_172 rfl (z_pc (pc' := 173) rfl ?_)
          refine z_xload_n C d_Law_law_173 rfl (z_pc (pc' := 174) rfl ?_)
          refine z_iload_n C d_Law_law_174 rfl (z_pc (pc' := 175) rfl ?_)
          refine z_iconst C d_Law_law_175 (z_pc (pc' := 176) rfl ?_)
          refine z_iadd C d_Law_law_176 (z_pc (pc' := 177) rfl ?_)
          obtain ⟨x42, h43, hf⟩ := zbind hf
          refine z_sld C hX hbl hL h43 d_Law_law_177 (z_pc (pc' := 178) rfl ?_)
          obtain ⟨x46, M45, h44, hf⟩ := zb2_inv hf
          refine z_callV C [zi x42] [zi x41] kv_Law_22 (c_Md_delete D n0 l h44) (e_Md_delete h44) ⟨(Nat.le_of_ble_eq_true rfl), (Nat.le_of_ble_eq_true rfl)⟩ (Nat.le_of_ble_eq_true rfl) ⟨(by show cells + 0 ≤ 600000; omega), (by show slots + 0 ≤ 7302250; omega)⟩ d_Law_law_178 (z_pc (pc' := 181) rfl ?_)
          refine z_icmp_eq (tgt := 564) C d_Law_law_181 (by decide) (fun c47 => ?_) (fun c47 => z_pc (pc' := 184) rfl ?_)
          · have hf := zpos c47 hf
            refine z_iinc C d_Law_law_564 rfl (by decide) (z_pl (pc' := 567) (L' := [some (.ref b), some (zv n0 a1), some (zv n0 a2), some (zi (zadd v3 4))]) rfl rfl ?_)
            refine z_goto (tgt := 18) C d_Law_law_567 (by decide) ?_
            exact z_widen (k := cells + 1134) (n := slots + 5670) (by omega) (by omega) (z_sub2 (ih (cells + 1134) (slots + 5670) (by omega) (by omega) _ _ hf) (And.intro rfl (And.intro rfl (And.intro rfl (And.intro rfl trivial)))))
          · have hf := zneg c47 hf
            refine z_iconst C d_Law_law_184 (z_pc (pc' := 185) rfl ?_)
            exact absurd hf (by simp)
        · have hf := zneg c36 hf
          by_cases c48 : zeq (zand x14 31) 2
          · have hf := zpos c48 hf
            refine z_tswK (tgt := 186) (off := 154) C 2 d_Law_law_32 c48 (by decide) (by decide) (by decide +kernel) (by decide) ?_
            refine z_aload_n C d_Law_law_186 rfl (z_pc (pc' := 187) rfl ?_)
            obtain ⟨x51, M50, h49, hf⟩ := zb2_inv hf
            refine z_callV C [] [] kv_Law_23 (c_V_commit D n0 l h49) (e_V_commit h49) ⟨(Nat.le_of_ble_eq_true rfl), (Nat.le_of_ble_eq_true rfl)⟩ (Nat.le_of_ble_eq_true rfl) ⟨(by show cells + 744 ≤ 600000; omega), (by show slots + 4481 ≤ 7302250; omega)⟩ d_Law_law_187 (z_pc (pc' := 190) rfl ?_)
            refine z_aload_n C d_Law_law_190 rfl (z_pc (pc' := 191) rfl ?_)
            obtain ⟨x54, M53, h52, hf⟩ := zb2_inv hf
            refine z_callV C [] [zi x51] kv_Law_27 (c_Md_commit D n0 l h52) (e_Md_commit h52) ⟨(Nat.le_of_ble_eq_true rfl), (Nat.le_of_ble_eq_true rfl)⟩ (Nat.le_of_ble_eq_true rfl) ⟨(by show cells + 744 ≤ 600000; omega), (by show slots + 4481 ≤ 7302250; omega)⟩ d_Law_law_191 (z_pc (pc' := 194) rfl ?_)
            refine z_icmp_eq (tgt := 564) C d_Law_law_194 (by decide) (fun c55 => ?_) (fun c55 => z_pc (pc' := 197) rfl ?_)
            · have hf := zpos c55 hf
              refine z_iinc C d_Law_law_564 rfl (by decide) (z_pl (pc' := 567) (L' := [some (.ref b), some (zv n0 a1), some (zv n0 a2), some (zi (zadd v3 4))]) rfl rfl ?_)
              refine z_goto (tgt := 18) C d_Law_law_567 (by decide) ?_
              exact z_widen (k := cells + 1134) (n := slots + 5670) (by omega) (by omega) (z_sub2 (ih (cells + 1134) (slots + 5670) (by omega) (by omega) _ _ hf) (And.intro rfl (And.intro rfl (And.intro rfl (And.intro rfl trivial)))))
            · have hf := zneg c55 hf
              refine z_iconst C d_Law_law_197 (z_pc (pc' := 198) rfl ?_)
              exact absurd hf (by simp)
          · have hf := zneg c48 hf
            by_cases c56 : zeq (zand x14 31) 3
            · have hf := zpos c56 hf
              refine z_tswK (tgt := 199) (off := 167) C 3 d_Law_law_32 c56 (by decide) (by decide) (by decide +kernel) (by decide) ?_
              refine z_aload_n C d_Law_law_199 rfl (z_pc (pc' := 200) rfl ?_)
              obtain ⟨x59, M58, h57, hf⟩ := zb2_inv hf
              refine z_callV C [] [] kv_Law_28 (c_V_sync D n0 l h57) (e_V_sync h57) ⟨(Nat.le_of_ble_eq_true rfl), (Nat.le_of_ble_eq_true rfl)⟩ (Nat.le_of_ble_eq_true rfl) ⟨(by show cells + 0 ≤ 600000; omega), (by show slots + 0 ≤ 7302250; omega)⟩ d_Law_law_200 (z_pc (pc' := 203) rfl ?_)
              refine z_aload_n C d_Law_law_203 rfl (z_pc (pc' := 204) rfl ?_)
              obtain ⟨x62, M61, h60, hf⟩ := zb2_inv hf
              refine z_callV C [] [zi x59] kv_Law_31 (c_Md_sync D n0 l h60) (e_Md_sync h60) ⟨(Nat.le_of_ble_eq_true rfl), (Nat.le_of_ble_eq_true rfl)⟩ (Nat.le_of_ble_eq_true rfl) ⟨(by show cells + 0 ≤ 600000; omega), (by show slots + 0 ≤ 7302250; omega)⟩ d_Law_law_204 (z_pc (pc' := 207) rfl ?_)
              refine z_icmp_eq (tgt := 564) C d_Law_law_207 (by decide) (fun c63 => ?_) (fun c63 => z_pc (pc' := 210) rfl ?_)
              · have hf := zpos c63 hf
                refine z_iinc C d_Law_law_564 rfl (by decide) (z_pl (pc' := 567) (L' := [some (.ref b), some (zv n0 a1), some (zv n0 a2), some (zi (zadd v3 4))]) rfl rfl ?_)
                refine z_goto (tgt := 18) C d_Law_law_567 (by decide) ?_
                exact z_widen (k := cells + 1134) (n := slots + 5670) (by omega) (by omega) (z_sub2 (ih (cells + 1134) (slots + 5670) (by omega) (by omega) _ _ hf) (And.intro rfl (And.intro rfl (And.intro rfl (And.intro rfl trivial)))))
              · have hf := zneg c63 hf
                refine z_iconst C d_Law_law_210 (z_pc (pc' := 211) rfl ?_)
                exact absurd hf (by simp)
            · have hf := zneg c56 hf
              by_cases c64 : zeq (zand x14 31) 4
              · have hf := zpos c64 hf
                refine z_tswK (tgt := 212) (off := 180) C 4 d_Law_law_32 c64 (by decide) (by decide) (by decide +kernel) (by decide) ?_
                refine z_aload_n C d_Law_law_212 rfl (z_pc (pc' := 213) rfl ?_)
                obtain ⟨x67, M66, h65, hf⟩ := zb2_inv hf
                refine z_callV C [] [] kv_Law_32 (c_V_flush D n0 l h65) (e_V_flush h65) ⟨(Nat.le_of_ble_eq_true rfl), (Nat.le_of_ble_eq_true rfl)⟩ (Nat.le_of_ble_eq_true rfl) ⟨(by show cells + 726 ≤ 600000; omega), (by show slots + 4356 ≤ 7302250; omega)⟩ d_Law_law_213 (z_pc (pc' := 216) rfl ?_)
                refine z_aload_n C d_Law_law_216 rfl (z_pc (pc' := 217) rfl ?_)
                obtain ⟨x70, M69, h68, hf⟩ := zb2_inv hf
                refine z_callV C [] [zi x67] kv_Law_35 (c_Md_flush D n0 l h68) (e_Md_flush h68) ⟨(Nat.le_of_ble_eq_true rfl), (Nat.le_of_ble_eq_true rfl)⟩ (Nat.le_of_ble_eq_true rfl) ⟨(by show cells + 726 ≤ 600000; omega), (by show slots + 4356 ≤ 7302250; omega)⟩ d_Law_law_217 (z_pc (pc' := 220) rfl ?_)
                refine z_icmp_eq (tgt := 564) C d_Law_law_220 (by decide) (fun c71 => ?_) (fun c71 => z_pc (pc' := 223) rfl ?_)
                · have hf := zpos c71 hf
                  refine z_iinc C d_Law_law_564 rfl (by decide) (z_pl (pc' := 567) (L' := [some (.ref b), some (zv n0 a1), some (zv n0 a2), some (zi (zadd v3 4))]) rfl rfl ?_)
                  refine z_goto (tgt := 18) C d_Law_law_567 (by decide) ?_
                  exact z_widen (k := cells + 1134) (n := slots + 5670) (by omega) (by omega) (z_sub2 (ih (cells + 1134) (slots + 5670) (by omega) (by omega) _ _ hf) (And.intro rfl (And.intro rfl (And.intro rfl (And.intro rfl trivial)))))
                · have hf := zneg c71 hf
                  refine z_iconst C d_Law_law_223 (z_pc (pc' := 224) rfl ?_)
                  exact absurd hf (by simp)
              · have hf := zneg c64 hf
                by_cases c72 : zeq (zand x14 31) 5
                · have hf := zpos c72 hf
                  refine z_tswK (tgt := 225) (off := 193) C 5 d_Law_law_32 c72 (by decide) (by decide) (by decide +kernel) (by decide) ?_
                  refine z_aload_n C d_Law_law_225 rfl (z_pc (pc' := 226) rfl ?_)
                  refine z_xload_n C d_Law_law_226 rfl (z_pc (pc' := 227) rfl ?_)
                  refine z_iload_n C d_Law_law_227 rfl (z_pc (pc' := 228) rfl ?_)
                  refine z_iconst C d_Law_law_228 (z_pc (pc' := 229) rfl ?_)
                  refine z_iadd C d_Law_law_229 (z_pc (pc' := 230) rfl ?_)
                  obtain ⟨x73, h74, hf⟩ := zbind hf
                  refine z_sld C hX hbl hL h74 d_Law_law_230 (z_pc (pc' := 231) rfl ?_)
                  obtain ⟨x77, M76, h75, hf⟩ := zb2_inv hf
                  refine z_callV C [zi x73] [] kv_Law_36 (c_V_merge D n0 l h75) (e_V_merge h75) ⟨(Nat.le_of_ble_eq_true rfl), (Nat.le_of_ble_eq_true rfl)⟩ (Nat.le_of_ble_eq_true rfl) ⟨(by show cells + 724 ≤ 600000; omega), (by show slots + 4344 ≤ 7302250; omega)⟩ d_Law_law_231 (z_pc (pc' := 234) rfl ?_)
                  refine z_aload_n C d_Law_law_234 rfl (z_pc (pc' := 235) rfl ?_)
                  refine z_xload_n C d_Law_law_235 rfl (z_pc (pc' := 236) rfl ?_)
                  refine z_iload_n C d_Law_law_236 rfl (z_pc (pc' := 237) rfl ?_)
                  refine z_iconst C d_Law_law_237 (z_pc (pc' := 238) rfl ?_)
                  refine z_iadd C d_Law_law_238 (z_pc (pc' := 239) rfl ?_)
                  obtain ⟨x78, h79, hf⟩ := zbind hf
                  refine z_sld C hX hbl hL h79 d_Law_law_239 (z_pc (pc' := 240) rfl ?_)
                  obtain ⟨x82, M81, h80, hf⟩ := zb2_inv hf
                  refine z_callV C [zi x78] [zi x77] kv_Law_39 (c_Md_merge D n0 l h80) (e_Md_merge h80) ⟨(Nat.le_of_ble_eq_true rfl), (Nat.le_of_ble_eq_true rfl)⟩ (Nat.le_of_ble_eq_true rfl) ⟨(by show cells + 724 ≤ 600000; omega), (by show slots + 4344 ≤ 7302250; omega)⟩ d_Law_law_240 (z_pc (pc' := 243) rfl ?_)
                  refine z_icmp_eq (tgt := 564) C d_Law_law_243 (by decide) (fun c83 => ?_) (fun c83 => z_pc (pc' := 246) rfl ?_)
                  · have hf := zpos c83 hf
                    refine z_iinc C d_Law_law_564 rfl (by decide) (z_pl (pc' := 567) (L' := [some (.ref b), some (zv n0 a1), some (zv n0 a2), some (zi (zadd v3 4))]) rfl rfl ?_)
                    refine z_goto (tgt := 18) C d_Law_law_567 (by decide) ?_
                    exact z_widen (k := cells + 1134) (n := slots + 5670) (by omega) (by omega) (z_sub2 (ih (cells + 1134) (slots + 5670) (by omega) (by omega) _ _ hf) (And.intro rfl (And.intro rfl (And.intro rfl (And.intro rfl trivial)))))
                  · have hf := zneg c83 hf
                    refine z_iconst C d_Law_law_246 (z_pc (pc' := 247) rfl ?_)
                    exact absurd hf (by simp)
                · have hf := zneg c72 hf
                  by_cases c84 : zeq (zand x14 31) 6
                  · have hf := zpos c84 hf
                    refine z_tswK (tgt := 248) (off := 216) C 6 d_Law_law_32 c84 (by decide) (by decide) (by decide +kernel) (by decide) ?_
                    refine z_aload_n C d_Law_law_248 rfl (z_pc (pc' := 249) rfl ?_)
                    obtain ⟨x87, M86, h85, hf⟩ := zb2_inv hf
                    refine z_callV C [] [] kv_Law_40 (c_V_collect D n0 l h85) (e_V_collect h85) ⟨(Nat.le_of_ble_eq_true rfl), (Nat.le_of_ble_eq_true rfl)⟩ (Nat.le_of_ble_eq_true rfl) ⟨(by show cells + 794 ≤ 600000; omega), (by show slots + 5291 ≤ 7302250; omega)⟩ d_Law_law_249 (z_pc (pc' := 252) rfl ?_)
                    refine z_aload_n C d_Law_law_252 rfl (z_pc (pc' := 253) rfl ?_)
                    obtain ⟨x90, M89, h88, hf⟩ := zb2_inv hf
                    refine z_callV C [] [zi x87] kv_Law_43 (c_Md_collect D n0 l h88) (e_Md_collect h88) ⟨(Nat.le_of_ble_eq_true rfl), (Nat.le_of_ble_eq_true rfl)⟩ (Nat.le_of_ble_eq_true rfl) ⟨(by show cells + 794 ≤ 600000; omega), (by show slots + 5291 ≤ 7302250; omega)⟩ d_Law_law_253 (z_pc (pc' := 256) rfl ?_)
                    refine z_icmp_eq (tgt := 564) C d_Law_law_256 (by decide) (fun c91 => ?_) (fun c91 => z_pc (pc' := 259) rfl ?_)
                    · have hf := zpos c91 hf
                      refine z_iinc C d_Law_law_564 rfl (by decide) (z_pl (pc' := 567) (L' := [some (.ref b), some (zv n0 a1), some (zv n0 a2), some (zi (zadd v3 4))]) rfl rfl ?_)
                      refine z_goto (tgt := 18) C d_Law_law_567 (by decide) ?_
                      exact z_widen (k := cells + 1134) (n := slots + 5670) (by omega) (by omega) (z_sub2 (ih (cells + 1134) (slots + 5670) (by omega) (by omega) _ _ hf) (And.intro rfl (And.intro rfl (And.intro rfl (And.intro rfl trivial)))))
                    · have hf := zneg c91 hf
                      refine z_iconst C d_Law_law_259 (z_pc (pc' := 260) rfl ?_)
                      exact absurd hf (by simp)
                  · have hf := zneg c84 hf
                    by_cases c92 : zeq (zand x14 31) 7
                    · have hf := zpos c92 hf
                      refine z_tswK (tgt := 261) (off := 229) C 7 d_Law_law_32 c92 (by decide) (by decide) (by decide +kernel) (by decide) ?_
                      refine z_aload_n C d_Law_law_261 rfl (z_pc (pc' := 262) rfl ?_)
                      obtain ⟨x95, M94, h93, hf⟩ := zb2_inv hf
                      refine z_callV C [] [] kv_Law_44 (c_V_take D n0 l h93) (e_V_take h93) ⟨(Nat.le_of_ble_eq_true rfl), (Nat.le_of_ble_eq_true rfl)⟩ (Nat.le_of_ble_eq_true rfl) ⟨(by show cells + 0 ≤ 600000; omega), (by show slots + 0 ≤ 7302250; omega)⟩ d_Law_law_262 (z_pc (pc' := 265) rfl ?_)
                      refine z_aload_n C d_Law_law_265 rfl (z_pc (pc' := 266) rfl ?_)
                      obtain ⟨x98, M97, h96, hf⟩ := zb2_inv hf
                      refine z_callV C [] [zi x95] kv_Law_47 (c_Md_take D n0 l h96) (e_Md_take h96) ⟨(Nat.le_of_ble_eq_true rfl), (Nat.le_of_ble_eq_true rfl)⟩ (Nat.le_of_ble_eq_true rfl) ⟨(by show cells + 0 ≤ 600000; omega), (by show slots + 0 ≤ 7302250; omega)⟩ d_Law_law_266 (z_pc (pc' := 269) rfl ?_)
                      refine z_icmp_eq (tgt := 564) C d_Law_law_269 (by decide) (fun c99 => ?_) (fun c99 => z_pc (pc' := 272) rfl ?_)
                      · have hf := zpos c99 hf
                        refine z_iinc C d_Law_law_564 rfl (by decide) (z_pl (pc' := 567) (L' := [some (.ref b), some (zv n0 a1), some (zv n0 a2), some (zi (zadd v3 4))]) rfl rfl ?_)
                        refine z_goto (tgt := 18) C d_Law_law_567 (by decide) ?_
                        exact z_widen (k := cells + 1134) (n := slots + 5670) (by omega) (by omega) (z_sub2 (ih (cells + 1134) (slots + 5670) (by omega) (by omega) _ _ hf) (And.intro rfl (And.intro rfl (And.intro rfl (And.intro rfl trivial)))))
                      · have hf := zneg c99 hf
                        refine z_iconst C d_Law_law_272 (z_pc (pc' := 273) rfl ?_)
                        exact absurd hf (by simp)
                    · have hf := zneg c92 hf
                      by_cases c100 : zeq (zand x14 31) 8
                      · have hf := zpos c100 hf
                        refine z_tswK (tgt := 274) (off := 242) C 8 d_Law_law_32 c100 (by decide) (by decide) (by decide +kernel) (by decide) ?_
                        refine z_aload_n C d_Law_law_274 rfl (z_pc (pc' := 275) rfl ?_)
                        refine z_xload_n C d_Law_law_275 rfl (z_pc (pc' := 276) rfl ?_)
                        refine z_iload_n C d_Law_law_276 rfl (z_pc (pc' := 277) rfl ?_)
                        refine z_iconst C d_Law_law_277 (z_pc (pc' := 278) rfl ?_)
                        refine z_iadd C d_Law_law_278 (z_pc (pc' := 279) rfl ?_)
                        obtain ⟨x101, h102, hf⟩ := zbind hf
                        refine z_sld C hX hbl hL h102 d_Law_law_279 (z_pc (pc' := 280) rfl ?_)
                        obtain ⟨x105, M104, h103, hf⟩ := zb2_inv hf
                        refine z_callV C [zi x101] [] kv_Law_48 (c_V_release D n0 l h103) (e_V_release h103) ⟨(Nat.le_of_ble_eq_true rfl), (Nat.le_of_ble_eq_true rfl)⟩ (Nat.le_of_ble_eq_true rfl) ⟨(by show cells + 0 ≤ 600000; omega), (by show slots + 0 ≤ 7302250; omega)⟩ d_Law_law_280 (z_pc (pc' := 283) rfl ?_)
                        refine z_aload_n C d_Law_law_283 rfl (z_pc (pc' := 284) rfl ?_)
                        refine z_xload_n C d_Law_law_284 rfl (z_pc (pc' := 285) rfl ?_)
                        refine z_iload_n C d_Law_law_285 rfl (z_pc (pc' := 286) rfl ?_)
                        refine z_iconst C d_Law_law_286 (z_pc (pc' := 287) rfl ?_)
                        refine z_iadd C d_Law_law_287 (z_pc (pc' := 288) rfl ?_)
                        obtain ⟨x106, h107, hf⟩ := zbind hf
                        refine z_sld C hX hbl hL h107 d_Law_law_288 (z_pc (pc' := 289) rfl ?_)
                        obtain ⟨x110, M109, h108, hf⟩ := zb2_inv hf
                        refine z_callV C [zi x106] [zi x105] kv_Law_52 (c_Md_release D n0 l h108) (e_Md_release h108) ⟨(Nat.le_of_ble_eq_true rfl), (Nat.le_of_ble_eq_true rfl)⟩ (Nat.le_of_ble_eq_true rfl) ⟨(by show cells + 0 ≤ 600000; omega), (by show slots + 0 ≤ 7302250; omega)⟩ d_Law_law_289 (z_pc (pc' := 292) rfl ?_)
                        refine z_icmp_eq (tgt := 564) C d_Law_law_292 (by decide) (fun c111 => ?_) (fun c111 => z_pc (pc' := 295) rfl ?_)
                        · have hf := zpos c111 hf
                          refine z_iinc C d_Law_law_564 rfl (by decide) (z_pl (pc' := 567) (L' := [some (.ref b), some (zv n0 a1), some (zv n0 a2), some (zi (zadd v3 4))]) rfl rfl ?_)
                          refine z_goto (tgt := 18) C d_Law_law_567 (by decide) ?_
                          exact z_widen (k := cells + 1134) (n := slots + 5670) (by omega) (by omega) (z_sub2 (ih (cells + 1134) (slots + 5670) (by omega) (by omega) _ _ hf) (And.intro rfl (And.intro rfl (And.intro rfl (And.intro rfl trivial)))))
                        · have hf := zneg c111 hf
                          refine z_iconst C d_Law_law_295 (z_pc (pc' := 296) rfl ?_)
                          exact absurd hf (by simp)
                      · have hf := zneg c100 hf
                        by_cases c112 : zeq (zand x14 31) 9
                        · have hf := zpos c112 hf
                          refine z_tswK (tgt := 297) (off := 265) C 9 d_Law_law_32 c112 (by decide) (by decide) (by decide +kernel) (by decide) ?_
                          refine z_aload_n C d_Law_law_297 rfl (z_pc (pc' := 298) rfl ?_)
                          refine z_xload_n C d_Law_law_298 rfl (z_pc (pc' := 299) rfl ?_)
                          refine z_iload_n C d_Law_law_299 rfl (z_pc (pc' := 300) rfl ?_)
                          refine z_iconst C d_Law_law_300 (z_pc (pc' := 301) rfl ?_)
                          refine z_iadd C d_Law_law_301 (z_pc (pc' := 302) rfl ?_)
                          obtain ⟨x113, h114, hf⟩ := zbind hf
                          refine z_sld C hX hbl hL h114 d_Law_law_302 (z_pc (pc' := 303) rfl ?_)
                          obtain ⟨x117, M116, h115, hf⟩ := zb2_inv hf
                          refine z_callV C [zi x113] [] kv_Law_53 (c_V_tick D n0 l h115) (e_V_tick h115) ⟨(Nat.le_of_ble_eq_true rfl), (Nat.le_of_ble_eq_true rfl)⟩ (Nat.le_of_ble_eq_true rfl) ⟨(by show cells + 0 ≤ 600000; omega), (by show slots + 0 ≤ 7302250; omega)⟩ d_Law_law_303 (z_pc (pc' := 306) rfl ?_)
                          refine z_aload_n C d_Law_law_306 rfl (z_pc (pc' := 307) rfl ?_)
                          refine z_xload_n C d_Law_law_307 rfl (z_pc (pc' := 308) rfl ?_)
                          refine z_iload_n C d_Law_law_308 rfl (z_pc (pc' := 309) rfl ?_)
                          refine z_iconst C d_Law_law_309 (z_pc (pc' := 310) rfl ?_)
                          refine z_iadd C d_Law_law_310 (z_pc (pc' := 311) rfl ?_)
                          obtain ⟨x118, h119, hf⟩ := zbind hf
                          refine z_sld C hX hbl hL h119 d_Law_law_311 (z_pc (pc' := 312) rfl ?_)
                          obtain ⟨x122, M121, h120, hf⟩ := zb2_inv hf
                          refine z_callV C [zi x118] [zi x117] kv_Law_56 (c_Md_tick D n0 l h120) (e_Md_tick h120) ⟨(Nat.le_of_ble_eq_true rfl), (Nat.le_of_ble_eq_true rfl)⟩ (Nat.le_of_ble_eq_true rfl) ⟨(by show cells + 0 ≤ 600000; omega), (by show slots + 0 ≤ 7302250; omega)⟩ d_Law_law_312 (z_pc (pc' := 315) rfl ?_)
                          refine z_icmp_eq (tgt := 564) C d_Law_law_315 (by decide) (fun c123 => ?_) (fun c123 => z_pc (pc' := 318) rfl ?_)
                          · have hf := zpos c123 hf
                            refine z_iinc C d_Law_law_564 rfl (by decide) (z_pl (pc' := 567) (L' := [some (.ref b), some (zv n0 a1), some (zv n0 a2), some (zi (zadd v3 4))]) rfl rfl ?_)
                            refine z_goto (tgt := 18) C d_Law_law_567 (by decide) ?_
                            exact z_widen (k := cells + 1134) (n := slots + 5670) (by omega) (by omega) (z_sub2 (ih (cells + 1134) (slots + 5670) (by omega) (by omega) _ _ hf) (And.intro rfl (And.intro rfl (And.intro rfl (And.intro rfl trivial)))))
                          · have hf := zneg c123 hf
                            refine z_iconst C d_Law_law_318 (z_pc (pc' := 319) rfl ?_)
                            exact absurd hf (by simp)
                        · have hf := zneg c112 hf
                          by_cases c124 : zeq (zand x14 31) 10
                          · have hf := zpos c124 hf
                            refine z_tswK (tgt := 320) (off := 288) C 10 d_Law_law_32 c124 (by decide) (by decide) (by decide +kernel) (by decide) ?_
                            refine z_aload_n C d_Law_law_320 rfl (z_pc (pc' := 321) rfl ?_)
                            refine z_xload_n C d_Law_law_321 rfl (z_pc (pc' := 322) rfl ?_)
                            refine z_iload_n C d_Law_law_322 rfl (z_pc (pc' := 323) rfl ?_)
                            refine z_iconst C d_Law_law_323 (z_pc (pc' := 324) rfl ?_)
                            refine z_iadd C d_Law_law_324 (z_pc (pc' := 325) rfl ?_)
                            obtain ⟨x125, h126, hf⟩ := zbind hf
                            refine z_sld C hX hbl hL h126 d_Law_law_325 (z_pc (pc' := 326) rfl ?_)
                            obtain ⟨x129, M128, h127, hf⟩ := zb2_inv hf
                            refine z_callV C [zi x125] [] kv_Law_57 (c_V_crash D n0 l h127) (e_V_crash h127) ⟨(Nat.le_of_ble_eq_true rfl), (Nat.le_of_ble_eq_true rfl)⟩ (Nat.le_of_ble_eq_true rfl) ⟨(by show cells + 1134 ≤ 600000; omega), (by show slots + 5670 ≤ 7302250; omega)⟩ d_Law_law_326 (z_pc (pc' := 329) rfl ?_)
                            refine z_aload_n C d_Law_law_329 rfl (z_pc (pc' := 330) rfl ?_)
                            refine z_xload_n C d_Law_law_330 rfl (z_pc (pc' := 331) rfl ?_)
                            refine z_iload_n C d_Law_law_331 rfl (z_pc (pc' := 332) rfl ?_)
                            refine z_iconst C d_Law_law_332 (z_pc (pc' := 333) rfl ?_)
                            refine z_iadd C d_Law_law_333 (z_pc (pc' := 334) rfl ?_)
                            obtain ⟨x130, h131, hf⟩ := zbind hf
                            refine z_sld C hX hbl hL h131 d_Law_law_334 (z_pc (pc' := 335) rfl ?_)
                            obtain ⟨x134, M133, h132, hf⟩ := zb2_inv hf
                            refine z_callV C [zi x130] [zi x129] kv_Law_60 (c_Md_crash D n0 l h132) (e_Md_crash h132) ⟨(Nat.le_of_ble_eq_true rfl), (Nat.le_of_ble_eq_true rfl)⟩ (Nat.le_of_ble_eq_true rfl) ⟨(by show cells + 1134 ≤ 600000; omega), (by show slots + 5670 ≤ 7302250; omega)⟩ d_Law_law_335 (z_pc (pc' := 338) rfl ?_)
                            refine z_icmp_eq (tgt := 564) C d_Law_law_338 (by decide) (fun c135 => ?_) (fun c135 => z_pc (pc' := 341) rfl ?_)
                            · have hf := zpos c135 hf
                              refine z_iinc C d_Law_law_564 rfl (by decide) (z_pl (pc' := 567) (L' := [some (.ref b), some (zv n0 a1), some (zv n0 a2), some (zi (zadd v3 4))]) rfl rfl ?_)
                              refine z_goto (tgt := 18) C d_Law_law_567 (by decide) ?_
                              exact z_widen (k := cells + 1134) (n := slots + 5670) (by omega) (by omega) (z_sub2 (ih (cells + 1134) (slots + 5670) (by omega) (by omega) _ _ hf) (And.intro rfl (And.intro rfl (And.intro rfl (And.intro rfl trivial)))))
                            · have hf := zneg c135 hf
                              refine z_iconst C d_Law_law_341 (z_pc (pc' := 342) rfl ?_)
                              exact absurd hf (by simp)
                          · have hf := zneg c124 hf
                            by_cases c136 : zeq (zand x14 31) 11
                            · have hf := zpos c136 hf
                              refine z_tswK (tgt := 343) (off := 311) C 11 d_Law_law_32 c136 (by decide) (by decide) (by decide +kernel) (by decide) ?_
                              refine z_aload_n C d_Law_law_343 rfl (z_pc (pc' := 344) rfl ?_)
                              refine z_xload_n C d_Law_law_344 rfl (z_pc (pc' := 345) rfl ?_)
                              refine z_iload_n C d_Law_law_345 rfl (z_pc (pc' := 346) rfl ?_)
                              refine z_iconst C d_Law_law_346 (z_pc (pc' := 347) rfl ?_)
                              refine z_iadd C d_Law_law_347 (z_pc (pc' := 348) rfl ?_)
                              obtain ⟨x137, h138, hf⟩ := zbind hf
                              refine z_sld C hX hbl hL h138 d_Law_law_348 (z_pc (pc' := 349) rfl ?_)
                              refine z_xload_n C d_Law_law_349 rfl (z_pc (pc' := 350) rfl ?_)
                              refine z_iload_n C d_Law_law_350 rfl (z_pc (pc' := 351) rfl ?_)
                              refine z_iconst C d_Law_law_351 (z_pc (pc' := 352) rfl ?_)
                              refine z_iadd C d_Law_law_352 (z_pc (pc' := 353) rfl ?_)
                              obtain ⟨x139, h140, hf⟩ := zbind hf
                              refine z_sld C hX hbl hL h140 d_Law_law_353 (z_pc (pc' := 354) rfl ?_)
                              obtain ⟨x143, M142, h141, hf⟩ := zb2_inv hf
                              refine z_callV C [zi x137, zi x139] [] kv_Law_61 (c_V_has D n0 l h141) (e_V_has h141) ⟨(Nat.le_of_ble_eq_true rfl), (Nat.le_of_ble_eq_true rfl)⟩ (Nat.le_of_ble_eq_true rfl) ⟨(by show cells + 0 ≤ 600000; omega), (by show slots + 0 ≤ 7302250; omega)⟩ d_Law_law_354 (z_pc (pc' := 357) rfl ?_)
                              refine z_aload_n C d_Law_law_357 rfl (z_pc (pc' := 358) rfl ?_)
                              refine z_xload_n C d_Law_law_358 rfl (z_pc (pc' := 359) rfl ?_)
                              refine z_iload_n C d_Law_law_359 rfl (z_pc (pc' := 360) rfl ?_)
                              refine z_iconst C d_Law_law_360 (z_pc (pc' := 361) rfl ?_)
                              refine z_iadd C d_Law_law_361 (z_pc (pc' := 362) rfl ?_)
                              obtain ⟨x144, h145, hf⟩ := zbind hf
                              refine z_sld C hX hbl hL h145 d_Law_law_362 (z_pc (pc' := 363) rfl ?_)
                              refine z_xload_n C d_Law_law_363 rfl (z_pc (pc' := 364) rfl ?_)
                              refine z_iload_n C d_Law_law_364 rfl (z_pc (pc' := 365) rfl ?_)
                              refine z_iconst C d_Law_law_365 (z_pc (pc' := 366) rfl ?_)
                              refine z_iadd C d_Law_law_366 (z_pc (pc' := 367) rfl ?_)
                              obtain ⟨x146, h147, hf⟩ := zbind hf
                              refine z_sld C hX hbl hL h147 d_Law_law_367 (z_pc (pc' := 368) rfl ?_)
                              obtain ⟨x150, M149, h148, hf⟩ := zb2_inv hf
                              refine z_callV C [zi x144, zi x146] [zi x143] kv_Law_65 (c_Md_has D n0 l h148) (e_Md_has h148) ⟨(Nat.le_of_ble_eq_true rfl), (Nat.le_of_ble_eq_true rfl)⟩ (Nat.le_of_ble_eq_true rfl) ⟨(by show cells + 0 ≤ 600000; omega), (by show slots + 0 ≤ 7302250; omega)⟩ d_Law_law_368 (z_pc (pc' := 371) rfl ?_)
                              refine z_icmp_eq (tgt := 564) C d_Law_law_371 (by decide) (fun c151 => ?_) (fun c151 => z_pc (pc' := 374) rfl ?_)
                              · have hf := zpos c151 hf
                                refine z_iinc C d_Law_law_564 rfl (by decide) (z_pl (pc' := 567) (L' := [some (.ref b), some (zv n0 a1), some (zv n0 a2), some (zi (zadd v3 4))]) rfl rfl ?_)
                                refine z_goto (tgt := 18) C d_Law_law_567 (by decide) ?_
                                exact z_widen (k := cells + 1134) (n := slots + 5670) (by omega) (by omega) (z_sub2 (ih (cells + 1134) (slots + 5670) (by omega) (by omega) _ _ hf) (And.intro rfl (And.intro rfl (And.intro rfl (And.intro rfl trivial)))))
                              · have hf := zneg c151 hf
                                refine z_iconst C d_Law_law_374 (z_pc (pc' := 375) rfl ?_)
                                exact absurd hf (by simp)
                            · have hf := zneg c136 hf
                              by_cases c152 : zeq (zand x14 31) 12
                              · have hf := zpos c152 hf
                                refine z_tswK (tgt := 376) (off := 344) C 12 d_Law_law_32 c152 (by decide) (by decide) (by decide +kernel) (by decide) ?_
                                refine z_aload_n C d_Law_law_376 rfl (z_pc (pc' := 377) rfl ?_)
                                refine z_xload_n C d_Law_law_377 rfl (z_pc (pc' := 378) rfl ?_)
                                refine z_iload_n C d_Law_law_378 rfl (z_pc (pc' := 379) rfl ?_)
                                refine z_iconst C d_Law_law_379 (z_pc (pc' := 380) rfl ?_)
                                refine z_iadd C d_Law_law_380 (z_pc (pc' := 381) rfl ?_)
                                obtain ⟨x153, h154, hf⟩ := zbind hf
                                refine z_sld C hX hbl hL h154 d_Law_law_381 (z_pc (pc' := 382) rfl ?_)
                                refine z_xload_n C d_Law_law_382 rfl (z_pc (pc' := 383) rfl ?_)
                                refine z_iload_n C d_Law_law_383 rfl (z_pc (pc' := 384) rfl ?_)
                                refine z_iconst C d_Law_law_384 (z_pc (pc' := 385) rfl ?_)
                                refine z_iadd C d_Law_law_385 (z_pc (pc' := 386) rfl ?_)
                                obtain ⟨x155, h156, hf⟩ := zbind hf
                                refine z_sld C hX hbl hL h156 d_Law_law_386 (z_pc (pc' := 387) rfl ?_)
                                obtain ⟨x159, M158, h157, hf⟩ := zb2_inv hf
                                refine z_callV C [zi x153, zi x155] [] kv_Law_66 (c_V_get D n0 l h157) (e_V_get h157) ⟨(Nat.le_of_ble_eq_true rfl), (Nat.le_of_ble_eq_true rfl)⟩ (Nat.le_of_ble_eq_true rfl) ⟨(by show cells + 0 ≤ 600000; omega), (by show slots + 0 ≤ 7302250; omega)⟩ d_Law_law_387 (z_pc (pc' := 390) rfl ?_)
                                refine z_aload_n C d_Law_law_390 rfl (z_pc (pc' := 391) rfl ?_)
                                refine z_xload_n C d_Law_law_391 rfl (z_pc (pc' := 392) rfl ?_)
                                refine z_iload_n C d_Law_law_392 rfl (z_pc (pc' := 393) rfl ?_)
                                refine z_iconst C d_Law_law_393 (z_pc (pc' := 394) rfl ?_)
                                refine z_iadd C d_Law_law_394 (z_pc (pc' := 395) rfl ?_)
                                obtain ⟨x160, h161, hf⟩ := zbind hf
                                refine z_sld C hX hbl hL h161 d_Law_law_395 (z_pc (pc' := 396) rfl ?_)
                                refine z_xload_n C d_Law_law_396 rfl (z_pc (pc' := 397) rfl ?_)
                                refine z_iload_n C d_Law_law_397 rfl (z_pc (pc' := 398) rfl ?_)
                                refine z_iconst C d_Law_law_398 (z_pc (pc' := 399) rfl ?_)
                                refine z_iadd C d_Law_law_399 (z_pc (pc' := 400) rfl ?_)
                                obtain ⟨x162, h163, hf⟩ := zbind hf
                                refine z_sld C hX hbl hL h163 d_Law_law_400 (z_pc (pc' := 401) rfl ?_)
                                obtain ⟨x166, M165, h164, hf⟩ := zb2_inv hf
                                refine z_callV C [zi x160, zi x162] [zi x159] kv_Law_70 (c_Md_get D n0 l h164) (e_Md_get h164) ⟨(Nat.le_of_ble_eq_true rfl), (Nat.le_of_ble_eq_true rfl)⟩ (Nat.le_of_ble_eq_true rfl) ⟨(by show cells + 0 ≤ 600000; omega), (by show slots + 0 ≤ 7302250; omega)⟩ d_Law_law_401 (z_pc (pc' := 404) rfl ?_)
                                refine z_icmp_eq (tgt := 564) C d_Law_law_404 (by decide) (fun c167 => ?_) (fun c167 => z_pc (pc' := 407) rfl ?_)
                                · have hf := zpos c167 hf
                                  refine z_iinc C d_Law_law_564 rfl (by decide) (z_pl (pc' := 567) (L' := [some (.ref b), some (zv n0 a1), some (zv n0 a2), some (zi (zadd v3 4))]) rfl rfl ?_)
                                  refine z_goto (tgt := 18) C d_Law_law_567 (by decide) ?_
                                  exact z_widen (k := cells + 1134) (n := slots + 5670) (by omega) (by omega) (z_sub2 (ih (cells + 1134) (slots + 5670) (by omega) (by omega) _ _ hf) (And.intro rfl (And.intro rfl (And.intro rfl (And.intro rfl trivial)))))
                                · have hf := zneg c167 hf
                                  refine z_iconst C d_Law_law_407 (z_pc (pc' := 408) rfl ?_)
                                  exact absurd hf (by simp)
                              · have hf := zneg c152 hf
                                by_cases c168 : zeq (zand x14 31) 13
                                · have hf := zpos c168 hf
                                  refine z_tswK (tgt := 409) (off := 377) C 13 d_Law_law_32 c168 (by decide) (by decide) (by decide +kernel) (by decide) ?_
                                  refine z_aload_n C d_Law_law_409 rfl (z_pc (pc' := 410) rfl ?_)
                                  refine z_xload_n C d_Law_law_410 rfl (z_pc (pc' := 411) rfl ?_)
                                  refine z_iload_n C d_Law_law_411 rfl (z_pc (pc' := 412) rfl ?_)
                                  refine z_iconst C d_Law_law_412 (z_pc (pc' := 413) rfl ?_)
                                  refine z_iadd C d_Law_law_413 (z_pc (pc' := 414) rfl ?_)
                                  obtain ⟨x169, h170, hf⟩ := zbind hf
                                  refine z_sld C hX hbl hL h170 d_Law_law_414 (z_pc (pc' := 415) rfl ?_)
                                  refine z_xload_n C d_Law_law_415 rfl (z_pc (pc' := 416) rfl ?_)
                                  refine z_iload_n C d_Law_law_416 rfl (z_pc (pc' := 417) rfl ?_)
                                  refine z_iconst C d_Law_law_417 (z_pc (pc' := 418) rfl ?_)
                                  refine z_iadd C d_Law_law_418 (z_pc (pc' := 419) rfl ?_)
                                  obtain ⟨x171, h172, hf⟩ := zbind hf
                                  refine z_sld C hX hbl hL h172 d_Law_law_419 (z_pc (pc' := 420) rfl ?_)
                                  refine z_xload_n C d_Law_law_420 rfl (z_pc (pc' := 421) rfl ?_)
                                  refine z_iload_n C d_Law_law_421 rfl (z_pc (pc' := 422) rfl ?_)
                                  refine z_iconst C d_Law_law_422 (z_pc (pc' := 423) rfl ?_)
                                  refine z_iadd C d_Law_law_423 (z_pc (pc' := 424) rfl ?_)
                                  obtain ⟨x173, h174, hf⟩ := zbind hf
                                  refine z_sld C hX hbl hL h174 d_Law_law_424 (z_pc (pc' := 425) rfl ?_)
                                  obtain ⟨x177, M176, h175, hf⟩ := zb2_inv hf
                                  refine z_callV C [zi x169, zi x171, zi x173] [] kv_Law_71 (c_V_scan D n0 l h175) (e_V_scan h175) ⟨(Nat.le_of_ble_eq_true rfl), (Nat.le_of_ble_eq_true rfl)⟩ (Nat.le_of_ble_eq_true rfl) ⟨(by show cells + 0 ≤ 600000; omega), (by show slots + 0 ≤ 7302250; omega)⟩ d_Law_law_425 (z_pc (pc' := 428) rfl ?_)
                                  refine z_aload_n C d_Law_law_428 rfl (z_pc (pc' := 429) rfl ?_)
                                  refine z_xload_n C d_Law_law_429 rfl (z_pc (pc' := 430) rfl ?_)
                                  refine z_iload_n C d_Law_law_430 rfl (z_pc (pc' := 431) rfl ?_)
                                  refine z_iconst C d_Law_law_431 (z_pc (pc' := 432) rfl ?_)
                                  refine z_iadd C d_Law_law_432 (z_pc (pc' := 433) rfl ?_)
                                  obtain ⟨x178, h179, hf⟩ := zbind hf
                                  refine z_sld C hX hbl hL h179 d_Law_law_433 (z_pc (pc' := 434) rfl ?_)
                                  refine z_xload_n C d_Law_law_434 rfl (z_pc (pc' := 435) rfl ?_)
                                  refine z_iload_n C d_Law_law_435 rfl (z_pc (pc' := 436) rfl ?_)
                                  refine z_iconst C d_Law_law_436 (z_pc (pc' := 437) rfl ?_)
                                  refine z_iadd C d_Law_law_437 (z_pc (pc' := 438) rfl ?_)
                                  obtain ⟨x180, h181, hf⟩ := zbind hf
                                  refine z_sld C hX hbl hL h181 d_Law_law_438 (z_pc (pc' := 439) rfl ?_)
                                  refine z_xload_n C d_Law_law_439 rfl (z_pc (pc' := 440) rfl ?_)
                                  refine z_iload_n C d_Law_law_440 rfl (z_pc (pc' := 441) rfl ?_)
                                  refine z_iconst C d_Law_law_441 (z_pc (pc' := 442) rfl ?_)
                                  refine z_iadd C d_Law_law_442 (z_pc (pc' := 443) rfl ?_)
                                  obtain ⟨x182, h183, hf⟩ := zbind hf
                                  refine z_sld C hX hbl hL h183 d_Law_law_443 (z_pc (pc' := 444) rfl ?_)
                                  obtain ⟨x186, M185, h184, hf⟩ := zb2_inv hf
                                  refine z_callV C [zi x178, zi x180, zi x182] [zi x177] kv_Law_74 (c_Md_scan D n0 l h184) (e_Md_scan h184) ⟨(Nat.le_of_ble_eq_true rfl), (Nat.le_of_ble_eq_true rfl)⟩ (Nat.le_of_ble_eq_true rfl) ⟨(by show cells + 0 ≤ 600000; omega), (by show slots + 0 ≤ 7302250; omega)⟩ d_Law_law_444 (z_pc (pc' := 447) rfl ?_)
                                  refine z_icmp_eq (tgt := 564) C d_Law_law_447 (by decide) (fun c187 => ?_) (fun c187 => z_pc (pc' := 450) rfl ?_)
                                  · have hf := zpos c187 hf
                                    refine z_iinc C d_Law_law_564 rfl (by decide) (z_pl (pc' := 567) (L' := [some (.ref b), some (zv n0 a1), some (zv n0 a2), some (zi (zadd v3 4))]) rfl rfl ?_)
                                    refine z_goto (tgt := 18) C d_Law_law_567 (by decide) ?_
                                    exact z_widen (k := cells + 1134) (n := slots + 5670) (by omega) (by omega) (z_sub2 (ih (cells + 1134) (slots + 5670) (by omega) (by omega) _ _ hf) (And.intro rfl (And.intro rfl (And.intro rfl (And.intro rfl trivial)))))
                                  · have hf := zneg c187 hf
                                    refine z_iconst C d_Law_law_450 (z_pc (pc' := 451) rfl ?_)
                                    exact absurd hf (by simp)
                                · have hf := zneg c168 hf
                                  by_cases c188 : zeq (zand x14 31) 14
                                  · have hf := zpos c188 hf
                                    refine z_tswK (tgt := 452) (off := 420) C 14 d_Law_law_32 c188 (by decide) (by decide) (by decide +kernel) (by decide) ?_
                                    refine z_aload_n C d_Law_law_452 rfl (z_pc (pc' := 453) rfl ?_)
                                    obtain ⟨x191, M190, h189, hf⟩ := zb2_inv hf
                                    refine z_callV C [] [] kv_Law_75 (c_V_probes D n0 l h189) (e_V_probes h189) ⟨(Nat.le_of_ble_eq_true rfl), (Nat.le_of_ble_eq_true rfl)⟩ (Nat.le_of_ble_eq_true rfl) ⟨(by show cells + 0 ≤ 600000; omega), (by show slots + 0 ≤ 7302250; omega)⟩ d_Law_law_453 (z_pc (pc' := 456) rfl ?_)
                                    refine z_aload_n C d_Law_law_456 rfl (z_pc (pc' := 457) rfl ?_)
                                    obtain ⟨x194, M193, h192, hf⟩ := zb2_inv hf
                                    refine z_callV C [] [zi x191] kv_Law_78 (c_Md_probes D n0 l h192) (e_Md_probes h192) ⟨(Nat.le_of_ble_eq_true rfl), (Nat.le_of_ble_eq_true rfl)⟩ (Nat.le_of_ble_eq_true rfl) ⟨(by show cells + 0 ≤ 600000; omega), (by show slots + 0 ≤ 7302250; omega)⟩ d_Law_law_457 (z_pc (pc' := 460) rfl ?_)
                                    refine z_icmp_eq (tgt := 564) C d_Law_law_460 (by decide) (fun c195 => ?_) (fun c195 => z_pc (pc' := 463) rfl ?_)
                                    · have hf := zpos c195 hf
                                      refine z_iinc C d_Law_law_564 rfl (by decide) (z_pl (pc' := 567) (L' := [some (.ref b), some (zv n0 a1), some (zv n0 a2), some (zi (zadd v3 4))]) rfl rfl ?_)
                                      refine z_goto (tgt := 18) C d_Law_law_567 (by decide) ?_
                                      exact z_widen (k := cells + 1134) (n := slots + 5670) (by omega) (by omega) (z_sub2 (ih (cells + 1134) (slots + 5670) (by omega) (by omega) _ _ hf) (And.intro rfl (And.intro rfl (And.intro rfl (And.intro rfl trivial)))))
                                    · have hf := zneg c195 hf
                                      refine z_iconst C d_Law_law_463 (z_pc (pc' := 464) rfl ?_)
                                      exact absurd hf (by simp)
                                  · have hf := zneg c188 hf
                                    by_cases c196 : zeq (zand x14 31) 15
                                    · have hf := zpos c196 hf
                                      refine z_tswK (tgt := 465) (off := 433) C 15 d_Law_law_32 c196 (by decide) (by decide) (by decide +kernel) (by decide) ?_
                                      refine z_aload_n C d_Law_law_465 rfl (z_pc (pc' := 466) rfl ?_)
                                      refine z_xload_n C d_Law_law_466 rfl (z_pc (pc' := 467) rfl ?_)
                                      refine z_iload_n C d_Law_law_467 rfl (z_pc (pc' := 468) rfl ?_)
                                      refine z_iconst C d_Law_law_468 (z_pc (pc' := 469) rfl ?_)
                                      refine z_iadd C d_Law_law_469 (z_pc (pc' := 470) rfl ?_)
                                      obtain ⟨x197, h198, hf⟩ := zbind hf
                                      refine z_sld C hX hbl hL h198 d_Law_law_470 (z_pc (pc' := 471) rfl ?_)
                                      refine z_xload_n C d_Law_law_471 rfl (z_pc (pc' := 472) rfl ?_)
                                      refine z_iload_n C d_Law_law_472 rfl (z_pc (pc' := 473) rfl ?_)
                                      refine z_iconst C d_Law_law_473 (z_pc (pc' := 474) rfl ?_)
                                      refine z_iadd C d_Law_law_474 (z_pc (pc' := 475) rfl ?_)
                                      obtain ⟨x199, h200, hf⟩ := zbind hf
                                      refine z_sld C hX hbl hL h200 d_Law_law_475 (z_pc (pc' := 476) rfl ?_)
                                      refine z_xload_n C d_Law_law_476 rfl (z_pc (pc' := 477) rfl ?_)
                                      refine z_iload_n C d_Law_law_477 rfl (z_pc (pc' := 478) rfl ?_)
                                      refine z_iconst C d_Law_law_478 (z_pc (pc' := 479) rfl ?_)
                                      refine z_iadd C d_Law_law_479 (z_pc (pc' := 480) rfl ?_)
                                      obtain ⟨x201, h202, hf⟩ := zbind hf
                                      refine z_sld C hX hbl hL h202 d_Law_law_480 (z_pc (pc' := 481) rfl ?_)
                                      obtain ⟨x205, M204, h203, hf⟩ := zb2_inv hf
                                      refine z_callV C [zi x197, zi x199, zi x201] [] kv_Law_79 (c_V_table D n0 l h203) (e_V_table h203) ⟨(Nat.le_of_ble_eq_true rfl), (Nat.le_of_ble_eq_true rfl)⟩ (Nat.le_of_ble_eq_true rfl) ⟨(by show cells + 0 ≤ 600000; omega), (by show slots + 0 ≤ 7302250; omega)⟩ d_Law_law_481 (z_pc (pc' := 484) rfl ?_)
                                      refine z_aload_n C d_Law_law_484 rfl (z_pc (pc' := 485) rfl ?_)
                                      refine z_xload_n C d_Law_law_485 rfl (z_pc (pc' := 486) rfl ?_)
                                      refine z_iload_n C d_Law_law_486 rfl (z_pc (pc' := 487) rfl ?_)
                                      refine z_iconst C d_Law_law_487 (z_pc (pc' := 488) rfl ?_)
                                      refine z_iadd C d_Law_law_488 (z_pc (pc' := 489) rfl ?_)
                                      obtain ⟨x206, h207, hf⟩ := zbind hf
                                      refine z_sld C hX hbl hL h207 d_Law_law_489 (z_pc (pc' := 490) rfl ?_)
                                      refine z_xload_n C d_Law_law_490 rfl (z_pc (pc' := 491) rfl ?_)
                                      refine z_iload_n C d_Law_law_491 rfl (z_pc (pc' := 492) rfl ?_)
                                      refine z_iconst C d_Law_law_492 (z_pc (pc' := 493) rfl ?_)
                                      refine z_iadd C d_Law_law_493 (z_pc (pc' := 494) rfl ?_)
                                      obtain ⟨x208, h209, hf⟩ := zbind hf
                                      refine z_sld C hX hbl hL h209 d_Law_law_494 (z_pc (pc' := 495) rfl ?_)
                                      refine z_xload_n C d_Law_law_495 rfl (z_pc (pc' := 496) rfl ?_)
                                      refine z_iload_n C d_Law_law_496 rfl (z_pc (pc' := 497) rfl ?_)
                                      refine z_iconst C d_Law_law_497 (z_pc (pc' := 498) rfl ?_)
                                      refine z_iadd C d_Law_law_498 (z_pc (pc' := 499) rfl ?_)
                                      obtain ⟨x210, h211, hf⟩ := zbind hf
                                      refine z_sld C hX hbl hL h211 d_Law_law_499 (z_pc (pc' := 500) rfl ?_)
                                      obtain ⟨x214, M213, h212, hf⟩ := zb2_inv hf
                                      refine z_callV C [zi x206, zi x208, zi x210] [zi x205] kv_Law_82 (c_Md_table D n0 l h212) (e_Md_table h212) ⟨(Nat.le_of_ble_eq_true rfl), (Nat.le_of_ble_eq_true rfl)⟩ (Nat.le_of_ble_eq_true rfl) ⟨(by show cells + 0 ≤ 600000; omega), (by show slots + 0 ≤ 7302250; omega)⟩ d_Law_law_500 (z_pc (pc' := 503) rfl ?_)
                                      refine z_icmp_eq (tgt := 564) C d_Law_law_503 (by decide) (fun c215 => ?_) (fun c215 => z_pc (pc' := 506) rfl ?_)
                                      · have hf := zpos c215 hf
                                        refine z_iinc C d_Law_law_564 rfl (by decide) (z_pl (pc' := 567) (L' := [some (.ref b), some (zv n0 a1), some (zv n0 a2), some (zi (zadd v3 4))]) rfl rfl ?_)
                                        refine z_goto (tgt := 18) C d_Law_law_567 (by decide) ?_
                                        exact z_widen (k := cells + 1134) (n := slots + 5670) (by omega) (by omega) (z_sub2 (ih (cells + 1134) (slots + 5670) (by omega) (by omega) _ _ hf) (And.intro rfl (And.intro rfl (And.intro rfl (And.intro rfl trivial)))))
                                      · have hf := zneg c215 hf
                                        refine z_iconst C d_Law_law_506 (z_pc (pc' := 507) rfl ?_)
                                        exact absurd hf (by simp)
                                    · have hf := zneg c196 hf
                                      by_cases c216 : zeq (zand x14 31) 16
                                      · have hf := zpos c216 hf
                                        refine z_tswK (tgt := 508) (off := 476) C 16 d_Law_law_32 c216 (by decide) (by decide) (by decide +kernel) (by decide) ?_
                                        refine z_aload_n C d_Law_law_508 rfl (z_pc (pc' := 509) rfl ?_)
                                        refine z_xload_n C d_Law_law_509 rfl (z_pc (pc' := 510) rfl ?_)
                                        refine z_iload_n C d_Law_law_510 rfl (z_pc (pc' := 511) rfl ?_)
                                        refine z_iconst C d_Law_law_511 (z_pc (pc' := 512) rfl ?_)
                                        refine z_iadd C d_Law_law_512 (z_pc (pc' := 513) rfl ?_)
                                        obtain ⟨x217, h218, hf⟩ := zbind hf
                                        refine z_sld C hX hbl hL h218 d_Law_law_513 (z_pc (pc' := 514) rfl ?_)
                                        refine z_xload_n C d_Law_law_514 rfl (z_pc (pc' := 515) rfl ?_)
                                        refine z_iload_n C d_Law_law_515 rfl (z_pc (pc' := 516) rfl ?_)
                                        refine z_iconst C d_Law_law_516 (z_pc (pc' := 517) rfl ?_)
                                        refine z_iadd C d_Law_law_517 (z_pc (pc' := 518) rfl ?_)
                                        obtain ⟨x219, h220, hf⟩ := zbind hf
                                        refine z_sld C hX hbl hL h220 d_Law_law_518 (z_pc (pc' := 519) rfl ?_)
                                        obtain ⟨x223, M222, h221, hf⟩ := zb2_inv hf
                                        refine z_callV C [zi x217, zi x219] [] kv_Law_83 (c_V_segment D n0 l h221) (e_V_segment h221) ⟨(Nat.le_of_ble_eq_true rfl), (Nat.le_of_ble_eq_true rfl)⟩ (Nat.le_of_ble_eq_true rfl) ⟨(by show cells + 0 ≤ 600000; omega), (by show slots + 0 ≤ 7302250; omega)⟩ d_Law_law_519 (z_pc (pc' := 522) rfl ?_)
                                        refine z_aload_n C d_Law_law_522 rfl (z_pc (pc' := 523) rfl ?_)
                                        refine z_xload_n C d_Law_law_523 rfl (z_pc (pc' := 524) rfl ?_)
                                        refine z_iload_n C d_Law_law_524 rfl (z_pc (pc' := 525) rfl ?_)
                                        refine z_iconst C d_Law_law_525 (z_pc (pc' := 526) rfl ?_)
                                        refine z_iadd C d_Law_law_526 (z_pc (pc' := 527) rfl ?_)
                                        obtain ⟨x224, h225, hf⟩ := zbind hf
                                        refine z_sld C hX hbl hL h225 d_Law_law_527 (z_pc (pc' := 528) rfl ?_)
                                        refine z_xload_n C d_Law_law_528 rfl (z_pc (pc' := 529) rfl ?_)
                                        refine z_iload_n C d_Law_law_529 rfl (z_pc (pc' := 530) rfl ?_)
                                        refine z_iconst C d_Law_law_530 (z_pc (pc' := 531) rfl ?_)
                                        refine z_iadd C d_Law_law_531 (z_pc (pc' := 532) rfl ?_)
                                        obtain ⟨x226, h227, hf⟩ := zbind hf
                                        refine z_sld C hX hbl hL h227 d_Law_law_532 (z_pc (pc' := 533) rfl ?_)
                                        obtain ⟨x230, M229, h228, hf⟩ := zb2_inv hf
                                        refine z_callV C [zi x224, zi x226] [zi x223] kv_Law_86 (c_Md_segment D n0 l h228) (e_Md_segment h228) ⟨(Nat.le_of_ble_eq_true rfl), (Nat.le_of_ble_eq_true rfl)⟩ (Nat.le_of_ble_eq_true rfl) ⟨(by show cells + 0 ≤ 600000; omega), (by show slots + 0 ≤ 7302250; omega)⟩ d_Law_law_533 (z_pc (pc' := 536) rfl ?_)
                                        refine z_icmp_eq (tgt := 564) C d_Law_law_536 (by decide) (fun c231 => ?_) (fun c231 => z_pc (pc' := 539) rfl ?_)
                                        · have hf := zpos c231 hf
                                          refine z_iinc C d_Law_law_564 rfl (by decide) (z_pl (pc' := 567) (L' := [some (.ref b), some (zv n0 a1), some (zv n0 a2), some (zi (zadd v3 4))]) rfl rfl ?_)
                                          refine z_goto (tgt := 18) C d_Law_law_567 (by decide) ?_
                                          exact z_widen (k := cells + 1134) (n := slots + 5670) (by omega) (by omega) (z_sub2 (ih (cells + 1134) (slots + 5670) (by omega) (by omega) _ _ hf) (And.intro rfl (And.intro rfl (And.intro rfl (And.intro rfl trivial)))))
                                        · have hf := zneg c231 hf
                                          refine z_iconst C d_Law_law_539 (z_pc (pc' := 540) rfl ?_)
                                          exact absurd hf (by simp)
                                      · have hf := zneg c216 hf
                                        by_cases c232 : zeq (zand x14 31) 17
                                        · have hf := zpos c232 hf
                                          refine z_tswK (tgt := 541) (off := 509) C 17 d_Law_law_32 c232 (by decide) (by decide) (by decide +kernel) (by decide) ?_
                                          refine z_aload_n C d_Law_law_541 rfl (z_pc (pc' := 542) rfl ?_)
                                          refine z_xload_n C d_Law_law_542 rfl (z_pc (pc' := 543) rfl ?_)
                                          refine z_iload_n C d_Law_law_543 rfl (z_pc (pc' := 544) rfl ?_)
                                          refine z_iconst C d_Law_law_544 (z_pc (pc' := 545) rfl ?_)
                                          refine z_iadd C d_Law_law_545 (z_pc (pc' := 546) rfl ?_)
                                          obtain ⟨x233, h234, hf⟩ := zbind hf
                                          refine z_sld C hX hbl hL h234 d_Law_law_546 (z_pc (pc' := 547) rfl ?_)
                                          obtain ⟨x237, M236, h235, hf⟩ := zb2_inv hf
                                          refine z_callV C [zi x233] [] kv_Law_87 (c_V_look D n0 l h235) (e_V_look h235) ⟨(Nat.le_of_ble_eq_true rfl), (Nat.le_of_ble_eq_true rfl)⟩ (Nat.le_of_ble_eq_true rfl) ⟨(by show cells + 0 ≤ 600000; omega), (by show slots + 0 ≤ 7302250; omega)⟩ d_Law_law_547 (z_pc (pc' := 550) rfl ?_)
                                          refine z_aload_n C d_Law_law_550 rfl (z_pc (pc' := 551) rfl ?_)
                                          refine z_xload_n C d_Law_law_551 rfl (z_pc (pc' := 552) rfl ?_)
                                          refine z_iload_n C d_Law_law_552 rfl (z_pc (pc' := 553) rfl ?_)
                                          refine z_iconst C d_Law_law_553 (z_pc (pc' := 554) rfl ?_)
                                          refine z_iadd C d_Law_law_554 (z_pc (pc' := 555) rfl ?_)
                                          obtain ⟨x238, h239, hf⟩ := zbind hf
                                          refine z_sld C hX hbl hL h239 d_Law_law_555 (z_pc (pc' := 556) rfl ?_)
                                          obtain ⟨x242, M241, h240, hf⟩ := zb2_inv hf
                                          refine z_callV C [zi x238] [zi x237] kv_Law_90 (c_Md_look D n0 l h240) (e_Md_look h240) ⟨(Nat.le_of_ble_eq_true rfl), (Nat.le_of_ble_eq_true rfl)⟩ (Nat.le_of_ble_eq_true rfl) ⟨(by show cells + 0 ≤ 600000; omega), (by show slots + 0 ≤ 7302250; omega)⟩ d_Law_law_556 (z_pc (pc' := 559) rfl ?_)
                                          refine z_icmp_eq (tgt := 564) C d_Law_law_559 (by decide) (fun c243 => ?_) (fun c243 => z_pc (pc' := 562) rfl ?_)
                                          · have hf := zpos c243 hf
                                            refine z_iinc C d_Law_law_564 rfl (by decide) (z_pl (pc' := 567) (L' := [some (.ref b), some (zv n0 a1), some (zv n0 a2), some (zi (zadd v3 4))]) rfl rfl ?_)
                                            refine z_goto (tgt := 18) C d_Law_law_567 (by decide) ?_
                                            exact z_widen (k := cells + 1134) (n := slots + 5670) (by omega) (by omega) (z_sub2 (ih (cells + 1134) (slots + 5670) (by omega) (by omega) _ _ hf) (And.intro rfl (And.intro rfl (And.intro rfl (And.intro rfl trivial)))))
                                          · have hf := zneg c243 hf
                                            refine z_iconst C d_Law_law_562 (z_pc (pc' := 563) rfl ?_)
                                            exact absurd hf (by simp)
                                        · have hf := zneg c232 hf
                                          refine z_tswD (tgt := 564) C d_Law_law_32 (fun t t1 t2 => by rcases (show t = 0 ∨ t = 1 ∨ t = 2 ∨ t = 3 ∨ t = 4 ∨ t = 5 ∨ t = 6 ∨ t = 7 ∨ t = 8 ∨ t = 9 ∨ t = 10 ∨ t = 11 ∨ t = 12 ∨ t = 13 ∨ t = 14 ∨ t = 15 ∨ t = 16 ∨ t = 17 by omega) with rfl | rfl | rfl | rfl | rfl | rfl | rfl | rfl | rfl | rfl | rfl | rfl | rfl | rfl | rfl | rfl | rfl | rfl <;> assumption) (by decide) ?_
                                          refine z_iinc C d_Law_law_564 rfl (by decide) (z_pl (pc' := 567) (L' := [some (.ref b), some (zv n0 a1), some (zv n0 a2), some (zi (zadd v3 4))]) rfl rfl ?_)
                                          refine z_goto (tgt := 18) C d_Law_law_567 (by decide) ?_
                                          exact z_widen (k := cells + 1134) (n := slots + 5670) (by omega) (by omega) (z_sub2 (ih (cells + 1134) (slots + 5670) (by omega) (by omega) _ _ hf) (And.intro rfl (And.intro rfl (And.intro rfl (And.intro rfl trivial)))))
set_option maxHeartbeats 4000000 in
set_option maxRecDepth 100000 in
theorem c_Law_law {D : va_G} {n0 : Nat} {l : Launch} {p : Program} {e : Env} {s : State} {m : MethodId} {below : List Frame} {meth : Method} {c : Code} {b Ls : Nat} {xs : Nat → Int} {M M' : zHp} (C : zC D n0 p s m meth c code 4 "LayerVaultLaw") (hr : meth.sig.returnType = ret) (hn1 : s.heap.size ≤ n0) (hbl : b < n0) (hL : Ls ≤ 2048) (hX : va_X b Ls (fun j => Int32.ofInt (xs j)) s s.heap) (hf : f_Law_law Ls xs M = some (1, M')) : zZ D n0 p l e room_1 s m #[Value.ref b] below meth c 4 0 0 (lw_Z below #[Value.ref b] s) 0 [some (.ref b), none, none, none] [] M := by
  unfold f_Law_law at hf
  obtain ⟨x1, M4, h2, hf⟩ := zb2_inv hf
  refine z_newO C (ci := 0) 26 rfl rfl kl_Law_7 kn_V kt_V h2 (Nat.le_of_ble_eq_true rfl) (Nat.le_of_ble_eq_true rfl) d_Law_law_0 (fun g3 => (z_pc (pc' := 3) rfl ?_))
  refine z_dupr C d_Law_law_3 (z_pc (pc' := 4) rfl ?_)
  obtain ⟨M6, h5, hf⟩ := zbind hf
  refine z_callI C [] [zv n0 x1] g3 ki_Law_9 (c_V_init D n0 l g3 h5) ⟨(Nat.le_of_ble_eq_true rfl), (Nat.le_of_ble_eq_true rfl)⟩ (Nat.le_of_ble_eq_true rfl) ⟨(Nat.le_of_ble_eq_true rfl), (Nat.le_of_ble_eq_true rfl)⟩ d_Law_law_4 (z_pc (pc' := 7) rfl ?_)
  refine z_astore_n C d_Law_law_7 (by decide) (z_pl (pc' := 8) (L' := [some (.ref b), some (zv n0 x1), none, none]) rfl rfl ?_)
  obtain ⟨x7, M10, h8, hf⟩ := zb2_inv hf
  refine z_newO C (ci := 8) 30 rfl rfl kl_Law_10 kn_Md kt_Md h8 (Nat.le_of_ble_eq_true rfl) (Nat.le_of_ble_eq_true rfl) d_Law_law_8 (fun g9 => (z_pc (pc' := 11) rfl ?_))
  refine z_dupr C d_Law_law_11 (z_pc (pc' := 12) rfl ?_)
  obtain ⟨M12, h11, hf⟩ := zbind hf
  refine z_callI C [] [zv n0 x7] g9 ki_Law_12 (c_Md_init D n0 l g9 h11) ⟨(Nat.le_of_ble_eq_true rfl), (Nat.le_of_ble_eq_true rfl)⟩ (Nat.le_of_ble_eq_true rfl) ⟨(Nat.le_of_ble_eq_true rfl), (Nat.le_of_ble_eq_true rfl)⟩ d_Law_law_12 (z_pc (pc' := 15) rfl ?_)
  refine z_astore_n C d_Law_law_15 (by decide) (z_pl (pc' := 16) (L' := [some (.ref b), some (zv n0 x1), some (zv n0 x7), none]) rfl rfl ?_)
  refine z_iconst C d_Law_law_16 (z_pc (pc' := 17) rfl ?_)
  refine z_istore_n C d_Law_law_17 (by decide) (z_pl (pc' := 18) (L' := [some (.ref b), some (zv n0 x1), some (zv n0 x7), some (zi 0)]) rfl rfl ?_)
  refine z_sub2 (w_Law_law_L18 (B := 581792) (Bs := 2915147) C hr hn1 hbl hL hX (Nat.le_of_ble_eq_true rfl) (Nat.le_of_ble_eq_true rfl) ?_ zf_Law_law_L18 _ _ (by decide) (by decide) _ _ hf) (And.intro rfl (And.intro rfl (And.intro rfl (And.intro rfl trivial))))
  intro M244 hf
  refine z_iconst C d_Law_law_570 (z_pc (pc' := 571) rfl ?_)
  exact z_lret C hr hn1 (Nat.le_of_ble_eq_true rfl) (Nat.le_of_ble_eq_true rfl) d_Law_law_571
