def R_law : String := "LayerVaultLaw"
def lw_P (b : Addr) (xs : List Int32) (args : Array Value) (s : State) : Prop := args = #[.ref b] ∧ s.IntsAt b xs ∧ xs.length ≤ 2048 ∧ (Jvm.Cond.and given_1 narrow_1).before args s = true
def lw_Q (_ : Array Value) (s : State) (o : Outcome) (t : State) : Prop := o = .returned (some (.int 1)) ∧ Framed s o t [] 600000 7302250
def lw_Z (below : List Frame) (a : Array Value) (s : State) : State → Prop := fun t => ∃ o, t.status = .running ∧ Ended t below o ∧ lw_Q a s o t
/-- the law's own end, with 1 on the stack, nothing written that was there before, its room as the claim has it -/
theorem lw_ret {p : Program} {l : Launch} {e : Env} {s : State} {m : MethodId} {below : List Frame} {meth : Method} {c : Code} {b : Nat} (hx : p.tables.exec = Jvm.exec) (hb : c.code = code) (hr : meth.sig.returnType = ret) (hlocks : meth.locks = false) {pc : Nat} {H : Heap} {ls : Array Slot} (hdg : decode code pc = .ok (.ireturn, 1)) : W p l e room_1 s m #[Value.ref b] below meth c H [] 600000 7302250 (lw_Z below #[Value.ref b] s) (F0 m pc ls [.int 1]) := by
  intro T hT X
  obtain ⟨fs, hret, hrun, hended, hW, hframe⟩ := X.leave (v := some (.int 1)) (hlocks := hlocks) (fun h => by rw [hr] at h; cases h)
  have hmeth' : T.vm.method? m = some meth := X.method'
  refine ⟨T.setFrames fs, ?_, .returned (some (.int 1)), hrun, hended, rfl, ⟨_, rfl⟩, hW, hframe⟩
  jvm_step X.here [X.here.top, hx, hb, hdg, hmeth', hr, ret, narrow_b1]
  (try refine ⟨rfl, ?_⟩); (try refine ⟨rfl, ?_⟩)
  first | (intro acts; rw [hret _ acts rfl rfl rfl]) | rw [hret _ _ rfl rfl rfl]
  exact Steps.refl _
/-- what holds at the law's entry: the machine, the code, the tables' words (any of lw_tbl by 'hts w (by decide +kernel)'), the script of L ints xs at the cell b, what the Statement gives of the start (any of its parts by flat_of_before) -/
def lw_At (p : Program) (s : State) (m : MethodId) (meth : Method) (c : Code) (b L : Nat) (xs : Nat → Int32) : Prop :=
  p.tables.exec = Jvm.exec ∧ c.code = code ∧ meth.sig.returnType = ret ∧ c.maxLocals = 4 ∧ s.vm.findClass R_law = some m.cls ∧ (∀ w ∈ lw_tbl, w.before #[Value.ref b] s = true) ∧ va_X b L xs s s.heap ∧ b < s.heap.size ∧ meth.locks = false ∧ (Jvm.Cond.and given_1 narrow_1).before #[Value.ref b] s = true
section ZLAW
variable {D : va_G} {n0 : Nat} {p : Program} {l : Launch} {e : Env} {R : Room} {s : State} {m : MethodId} {args : Array Value} {below : List Frame} {meth : Method} {c : Code} {cells slots : Nat} {Q : State → Prop} {cc : ByteArray} {nL : Nat} {own : String} {pc : Nat} {L : List (Option Value)} {st : List Value} {M M' M1 : zHp} {b Ls : Nat} {xs : Nat → Int}
/-- the script's ints -/
def zsc (Ls : Nat) (xs : Nat → Int) (i : Int) : Option Int := if 0 ≤ i ∧ i.toNat < Ls then some (xs i.toNat) else none
theorem z_sld (C : zC D n0 p s m meth c cc nL own) (hX : va_X b Ls (fun j => Int32.ofInt (xs j)) s s.heap) (hbl : b < n0) (hL : Ls ≤ 2048) {i x : Int} (h : zsc Ls xs i = some x) (hd : decode cc pc = .ok (.iaload, 1)) (kk : zZ D n0 p l e R s m args below meth c nL cells slots Q (pc + 1) L (zi x :: st) M) : zZ D n0 p l e R s m args below meth c nL cells slots Q pc L (zi i :: .ref b :: st) M := by
  obtain ⟨hi, h⟩ := zif h
  cases h
  intro ls H locs hl hR hS
  refine va_sld (A := fun q => n0 ≤ q) C.1 C.2.1 hX (Nat.lt_of_lt_of_le hbl C.2.2.2.2.2.2.1) (Nat.not_le.mpr hbl) hS (zvin hi.1 (by omega) hi.2) hd ?_
  rw [(zix hi.1 (by omega)).2]
  exact kk ls H locs hl hR hS
theorem z_slen (C : zC D n0 p s m meth c cc nL own) (hX : va_X b Ls (fun j => Int32.ofInt (xs j)) s s.heap) (hbl : b < n0) (hd : decode cc pc = .ok (.arraylength, 1)) (kk : zZ D n0 p l e R s m args below meth c nL cells slots Q (pc + 1) L (zi (Int.ofNat Ls) :: st) M) : zZ D n0 p l e R s m args below meth c nL cells slots Q pc L (.ref b :: st) M := by
  intro ls H locs hl hR hS
  exact va_slen (A := fun q => n0 ≤ q) C.1 C.2.1 hX (Nat.lt_of_lt_of_le hbl C.2.2.2.2.2.2.1) (Nat.not_le.mpr hbl) hS hd (kk ls H locs hl hR hS)
theorem z_lret (C : zC D n0 p s m meth c code nL own) (hr : meth.sig.returnType = ret) (hn1 : s.heap.size ≤ n0) (hc : cells ≤ 600000) (hs : slots ≤ 7302250) (hd : decode code pc = .ok (.ireturn, 1)) : zZ D n0 p l e room_1 s m #[Value.ref b] below meth c nL cells slots (lw_Z below #[Value.ref b] s) pc L [zi 1] M := by
  intro ls H locs hl hR hS
  refine va_forget (fun q hq => Nat.le_trans hn1 (hS.2.2 q hq)) ?_
  exact W.widen hc hs (lw_ret C.1 C.2.1 hr C.2.2.2.2.2.2.2 hd)
end ZLAW
-- the law as a functional program (printed by law.py)
def zf_Law_law_L18 : Nat := 513
def f_Law_law_L18 (Ls : Nat) (xs : Nat → Int) (κ : zHp → Option (Int × zHp)) (a1 : Nat) (a2 : Nat) : Nat → Int → zHp → Option (Int × zHp)
  | 0, _, _ => none
  | n + 1, v3, M =>
    if zlt (zsub (Int.ofNat Ls) 4) v3 then
      κ M
    else
    (zsc Ls xs v3).bind fun x14 =>
    if zeq (zand x14 31) 0 then
      (zsc Ls xs (zadd v3 1)).bind fun x17 =>
      (zsc Ls xs (zadd v3 2)).bind fun x19 =>
      (zsc Ls xs (zadd v3 3)).bind fun x21 =>
      zb2 (f_V_put a1 x17 x19 x21 M) fun x25 M24 =>
      (zsc Ls xs (zadd v3 1)).bind fun x26 =>
      (zsc Ls xs (zadd v3 2)).bind fun x28 =>
      (zsc Ls xs (zadd v3 3)).bind fun x30 =>
      zb2 (f_Md_put a2 x26 x28 x30 M24) fun x34 M33 =>
      if zeq x25 x34 then
        f_Law_law_L18 Ls xs κ a1 a2 n (zadd v3 4) M33
      else
      some (0, M33)
    else
    if zeq (zand x14 31) 1 then
      (zsc Ls xs (zadd v3 1)).bind fun x37 =>
      zb2 (f_V_delete a1 x37 M) fun x41 M40 =>
      (zsc Ls xs (zadd v3 1)).bind fun x42 =>
      zb2 (f_Md_delete a2 x42 M40) fun x46 M45 =>
      if zeq x41 x46 then
        f_Law_law_L18 Ls xs κ a1 a2 n (zadd v3 4) M45
      else
      some (0, M45)
    else
    if zeq (zand x14 31) 2 then
      zb2 (f_V_commit a1 M) fun x51 M50 =>
      zb2 (f_Md_commit a2 M50) fun x54 M53 =>
      if zeq x51 x54 then
        f_Law_law_L18 Ls xs κ a1 a2 n (zadd v3 4) M53
      else
      some (0, M53)
    else
    if zeq (zand x14 31) 3 then
      zb2 (f_V_sync a1 M) fun x59 M58 =>
      zb2 (f_Md_sync a2 M58) fun x62 M61 =>
      if zeq x59 x62 then
        f_Law_law_L18 Ls xs κ a1 a2 n (zadd v3 4) M61
      else
      some (0, M61)
    else
    if zeq (zand x14 31) 4 then
      zb2 (f_V_flush a1 M) fun x67 M66 =>
      zb2 (f_Md_flush a2 M66) fun x70 M69 =>
      if zeq x67 x70 then
        f_Law_law_L18 Ls xs κ a1 a2 n (zadd v3 4) M69
      else
      some (0, M69)
    else
    if zeq (zand x14 31) 5 then
      (zsc Ls xs (zadd v3 1)).bind fun x73 =>
      zb2 (f_V_merge a1 x73 M) fun x77 M76 =>
      (zsc Ls xs (zadd v3 1)).bind fun x78 =>
      zb2 (f_Md_merge a2 x78 M76) fun x82 M81 =>
      if zeq x77 x82 then
        f_Law_law_L18 Ls xs κ a1 a2 n (zadd v3 4) M81
      else
      some (0, M81)
    else
    if zeq (zand x14 31) 6 then
      zb2 (f_V_collect a1 M) fun x87 M86 =>
      zb2 (f_Md_collect a2 M86) fun x90 M89 =>
      if zeq x87 x90 then
        f_Law_law_L18 Ls xs κ a1 a2 n (zadd v3 4) M89
      else
      some (0, M89)
    else
    if zeq (zand x14 31) 7 then
      zb2 (f_V_take a1 M) fun x95 M94 =>
      zb2 (f_Md_take a2 M94) fun x98 M97 =>
      if zeq x95 x98 then
        f_Law_law_L18 Ls xs κ a1 a2 n (zadd v3 4) M97
      else
      some (0, M97)
    else
    if zeq (zand x14 31) 8 then
      (zsc Ls xs (zadd v3 1)).bind fun x101 =>
      zb2 (f_V_release a1 x101 M) fun x105 M104 =>
      (zsc Ls xs (zadd v3 1)).bind fun x106 =>
      zb2 (f_Md_release a2 x106 M104) fun x110 M109 =>
      if zeq x105 x110 then
        f_Law_law_L18 Ls xs κ a1 a2 n (zadd v3 4) M109
      else
      some (0, M109)
    else
    if zeq (zand x14 31) 9 then
      (zsc Ls xs (zadd v3 1)).bind fun x113 =>
      zb2 (f_V_tick a1 x113 M) fun x117 M116 =>
      (zsc Ls xs (zadd v3 1)).bind fun x118 =>
      zb2 (f_Md_tick a2 x118 M116) fun x122 M121 =>
      if zeq x117 x122 then
        f_Law_law_L18 Ls xs κ a1 a2 n (zadd v3 4) M121
      else
      some (0, M121)
    else
    if zeq (zand x14 31) 10 then
      (zsc Ls xs (zadd v3 1)).bind fun x125 =>
      zb2 (f_V_crash a1 x125 M) fun x129 M128 =>
      (zsc Ls xs (zadd v3 1)).bind fun x130 =>
      zb2 (f_Md_crash a2 x130 M128) fun x134 M133 =>
      if zeq x129 x134 then
        f_Law_law_L18 Ls xs κ a1 a2 n (zadd v3 4) M133
      else
      some (0, M133)
    else
    if zeq (zand x14 31) 11 then
      (zsc Ls xs (zadd v3 1)).bind fun x137 =>
      (zsc Ls xs (zadd v3 2)).bind fun x139 =>
      zb2 (f_V_has a1 x137 x139 M) fun x143 M142 =>
      (zsc Ls xs (zadd v3 1)).bind fun x144 =>
      (zsc Ls xs (zadd v3 2)).bind fun x146 =>
      zb2 (f_Md_has a2 x144 x146 M142) fun x150 M149 =>
      if zeq x143 x150 then
        f_Law_law_L18 Ls xs κ a1 a2 n (zadd v3 4) M149
      else
      some (0, M149)
    else
    if zeq (zand x14 31) 12 then
      (zsc Ls xs (zadd v3 1)).bind fun x153 =>
      (zsc Ls xs (zadd v3 2)).bind fun x155 =>
      zb2 (f_V_get a1 x153 x155 M) fun x159 M158 =>
      (zsc Ls xs (zadd v3 1)).bind fun x160 =>
      (zsc Ls xs (zadd v3 2)).bind fun x162 =>
      zb2 (f_Md_get a2 x160 x162 M158) fun x166 M165 =>
      if zeq x159 x166 then
        f_Law_law_L18 Ls xs κ a1 a2 n (zadd v3 4) M165
      else
      some (0, M165)
    else
    if zeq (zand x14 31) 13 then
      (zsc Ls xs (zadd v3 1)).bind fun x169 =>
      (zsc Ls xs (zadd v3 2)).bind fun x171 =>
      (zsc Ls xs (zadd v3 3)).bind fun x173 =>
      zb2 (f_V_scan a1 x169 x171 x173 M) fun x177 M176 =>
      (zsc Ls xs (zadd v3 1)).bind fun x178 =>
      (zsc Ls xs (zadd v3 2)).bind fun x180 =>
      (zsc Ls xs (zadd v3 3)).bind fun x182 =>
      zb2 (f_Md_scan a2 x178 x180 x182 M176) fun x186 M185 =>
      if zeq x177 x186 then
        f_Law_law_L18 Ls xs κ a1 a2 n (zadd v3 4) M185
      else
      some (0, M185)
    else
    if zeq (zand x14 31) 14 then
      zb2 (f_V_probes a1 M) fun x191 M190 =>
      zb2 (f_Md_probes a2 M190) fun x194 M193 =>
      if zeq x191 x194 then
        f_Law_law_L18 Ls xs κ a1 a2 n (zadd v3 4) M193
      else
      some (0, M193)
    else
    if zeq (zand x14 31) 15 then
      (zsc Ls xs (zadd v3 1)).bind fun x197 =>
      (zsc Ls xs (zadd v3 2)).bind fun x199 =>
      (zsc Ls xs (zadd v3 3)).bind fun x201 =>
      zb2 (f_V_table a1 x197 x199 x201 M) fun x205 M204 =>
      (zsc Ls xs (zadd v3 1)).bind fun x206 =>
      (zsc Ls xs (zadd v3 2)).bind fun x208 =>
      (zsc Ls xs (zadd v3 3)).bind fun x210 =>
      zb2 (f_Md_table a2 x206 x208 x210 M204) fun x214 M213 =>
      if zeq x205 x214 then
        f_Law_law_L18 Ls xs κ a1 a2 n (zadd v3 4) M213
      else
      some (0, M213)
    else
    if zeq (zand x14 31) 16 then
      (zsc Ls xs (zadd v3 1)).bind fun x217 =>
      (zsc Ls xs (zadd v3 2)).bind fun x219 =>
      zb2 (f_V_segment a1 x217 x219 M) fun x223 M222 =>
      (zsc Ls xs (zadd v3 1)).bind fun x224 =>
      (zsc Ls xs (zadd v3 2)).bind fun x226 =>
      zb2 (f_Md_segment a2 x224 x226 M222) fun x230 M229 =>
      if zeq x223 x230 then
        f_Law_law_L18 Ls xs κ a1 a2 n (zadd v3 4) M229
      else
      some (0, M229)
    else
    if zeq (zand x14 31) 17 then
      (zsc Ls xs (zadd v3 1)).bind fun x233 =>
      zb2 (f_V_look a1 x233 M) fun x237 M236 =>
      (zsc Ls xs (zadd v3 1)).bind fun x238 =>
      zb2 (f_Md_look a2 x238 M236) fun x242 M241 =>
      if zeq x237 x242 then
        f_Law_law_L18 Ls xs κ a1 a2 n (zadd v3 4) M241
      else
      some (0, M241)
    else
    f_Law_law_L18 Ls xs κ a1 a2 n (zadd v3 4) M
def f_Law_law (Ls : Nat) (xs : Nat → Int) (M : zHp) : Option (Int × zHp) :=
  zb2 (znew M 0) fun x1 M4 =>
  (f_V_init x1 M4).bind fun M6 =>
  zb2 (znew M6 8) fun x7 M10 =>
  (f_Md_init x7 M10).bind fun M12 =>
  f_Law_law_L18 Ls xs (fun M244 =>
    some (1, M244)) x1 x7 zf_Law_law_L18 0 M12
theorem kl_Law_7 : Cond.classLink "LayerVaultLaw" 7 "LayerVault" ∈ ztb := (zmem 11 (by decide +kernel) rfl)
theorem kn_V : Cond.instantiable "LayerVault" 26 ∈ ztb := (zmem 12 (by decide +kernel) rfl)
theorem kt_V : Cond.initialized "LayerVault" ∈ ztb := (zmem 1 (by decide +kernel) rfl)
theorem kl_Law_10 : Cond.classLink "LayerVaultLaw" 10 "LayerVaultModel" ∈ ztb := (zmem 611 (by decide +kernel) rfl)
theorem kn_Md : Cond.instantiable "LayerVaultModel" 30 ∈ ztb := (zmem 612 (by decide +kernel) rfl)
theorem kt_Md : Cond.initialized "LayerVaultModel" ∈ ztb := (zmem 8 (by decide +kernel) rfl)
theorem kv_Law_17 : zVf "LayerVaultLaw" 17 y_Md_put b_Md_put 4 (some .int) 8 3 := ⟨_, rfl, rfl, (zmem 708 (by decide +kernel) rfl), (zmem 709 (by decide +kernel) rfl), (zmem 710 (by decide +kernel) rfl), (zmem 711 (by decide +kernel) rfl), (zmem 8 (by decide +kernel) rfl), ⟨by decide +kernel, by decide +kernel, by decide +kernel⟩⟩
theorem kv_Law_13 : zVf "LayerVaultLaw" 13 y_V_put b_V_put 4 (some .int) 0 3 := ⟨_, rfl, rfl, (zmem 264 (by decide +kernel) rfl), (zmem 265 (by decide +kernel) rfl), (zmem 266 (by decide +kernel) rfl), (zmem 267 (by decide +kernel) rfl), (zmem 1 (by decide +kernel) rfl), ⟨by decide +kernel, by decide +kernel, by decide +kernel⟩⟩
theorem kv_Law_22 : zVf "LayerVaultLaw" 22 y_Md_delete b_Md_delete 2 (some .int) 8 1 := ⟨_, rfl, rfl, (zmem 719 (by decide +kernel) rfl), (zmem 720 (by decide +kernel) rfl), (zmem 721 (by decide +kernel) rfl), (zmem 722 (by decide +kernel) rfl), (zmem 8 (by decide +kernel) rfl), ⟨by decide +kernel, by decide +kernel, by decide +kernel⟩⟩
theorem kv_Law_18 : zVf "LayerVaultLaw" 18 y_V_delete b_V_delete 2 (some .int) 0 1 := ⟨_, rfl, rfl, (zmem 275 (by decide +kernel) rfl), (zmem 276 (by decide +kernel) rfl), (zmem 277 (by decide +kernel) rfl), (zmem 278 (by decide +kernel) rfl), (zmem 1 (by decide +kernel) rfl), ⟨by decide +kernel, by decide +kernel, by decide +kernel⟩⟩
theorem kv_Law_27 : zVf "LayerVaultLaw" 27 y_Md_commit b_Md_commit 4 (some .int) 8 0 := ⟨_, rfl, rfl, (zmem 723 (by decide +kernel) rfl), (zmem 724 (by decide +kernel) rfl), (zmem 725 (by decide +kernel) rfl), (zmem 726 (by decide +kernel) rfl), (zmem 8 (by decide +kernel) rfl), ⟨by decide +kernel, by decide +kernel, by decide +kernel⟩⟩
theorem kv_Law_23 : zVf "LayerVaultLaw" 23 y_V_commit b_V_commit 6 (some .int) 0 0 := ⟨_, rfl, rfl, (zmem 279 (by decide +kernel) rfl), (zmem 280 (by decide +kernel) rfl), (zmem 281 (by decide +kernel) rfl), (zmem 282 (by decide +kernel) rfl), (zmem 1 (by decide +kernel) rfl), ⟨by decide +kernel, by decide +kernel, by decide +kernel⟩⟩
theorem kv_Law_31 : zVf "LayerVaultLaw" 31 y_Md_sync b_Md_sync 2 (some .int) 8 0 := ⟨_, rfl, rfl, (zmem 783 (by decide +kernel) rfl), (zmem 784 (by decide +kernel) rfl), (zmem 785 (by decide +kernel) rfl), (zmem 786 (by decide +kernel) rfl), (zmem 8 (by decide +kernel) rfl), ⟨by decide +kernel, by decide +kernel, by decide +kernel⟩⟩
theorem kv_Law_28 : zVf "LayerVaultLaw" 28 y_V_sync b_V_sync 2 (some .int) 0 0 := ⟨_, rfl, rfl, (zmem 256 (by decide +kernel) rfl), (zmem 257 (by decide +kernel) rfl), (zmem 258 (by decide +kernel) rfl), (zmem 259 (by decide +kernel) rfl), (zmem 1 (by decide +kernel) rfl), ⟨by decide +kernel, by decide +kernel, by decide +kernel⟩⟩
theorem kv_Law_35 : zVf "LayerVaultLaw" 35 y_Md_flush b_Md_flush 2 (some .int) 8 0 := ⟨_, rfl, rfl, (zmem 787 (by decide +kernel) rfl), (zmem 788 (by decide +kernel) rfl), (zmem 789 (by decide +kernel) rfl), (zmem 790 (by decide +kernel) rfl), (zmem 8 (by decide +kernel) rfl), ⟨by decide +kernel, by decide +kernel, by decide +kernel⟩⟩
theorem kv_Law_32 : zVf "LayerVaultLaw" 32 y_V_flush b_V_flush 6 (some .int) 0 0 := ⟨_, rfl, rfl, (zmem 504 (by decide +kernel) rfl), (zmem 284 (by decide +kernel) rfl), (zmem 285 (by decide +kernel) rfl), (zmem 286 (by decide +kernel) rfl), (zmem 1 (by decide +kernel) rfl), ⟨by decide +kernel, by decide +kernel, by decide +kernel⟩⟩
theorem kv_Law_39 : zVf "LayerVaultLaw" 39 y_Md_merge b_Md_merge 2 (some .int) 8 1 := ⟨_, rfl, rfl, (zmem 791 (by decide +kernel) rfl), (zmem 792 (by decide +kernel) rfl), (zmem 793 (by decide +kernel) rfl), (zmem 794 (by decide +kernel) rfl), (zmem 8 (by decide +kernel) rfl), ⟨by decide +kernel, by decide +kernel, by decide +kernel⟩⟩
theorem kv_Law_36 : zVf "LayerVaultLaw" 36 y_V_merge b_V_merge 2 (some .int) 0 1 := ⟨_, rfl, rfl, (zmem 500 (by decide +kernel) rfl), (zmem 501 (by decide +kernel) rfl), (zmem 502 (by decide +kernel) rfl), (zmem 503 (by decide +kernel) rfl), (zmem 1 (by decide +kernel) rfl), ⟨by decide +kernel, by decide +kernel, by decide +kernel⟩⟩
theorem kv_Law_43 : zVf "LayerVaultLaw" 43 y_Md_collect b_Md_collect 7 (some .int) 8 0 := ⟨_, rfl, rfl, (zmem 795 (by decide +kernel) rfl), (zmem 796 (by decide +kernel) rfl), (zmem 797 (by decide +kernel) rfl), (zmem 798 (by decide +kernel) rfl), (zmem 8 (by decide +kernel) rfl), ⟨by decide +kernel, by decide +kernel, by decide +kernel⟩⟩
theorem kv_Law_40 : zVf "LayerVaultLaw" 40 y_V_collect b_V_collect 7 (some .int) 0 0 := ⟨_, rfl, rfl, (zmem 505 (by decide +kernel) rfl), (zmem 506 (by decide +kernel) rfl), (zmem 507 (by decide +kernel) rfl), (zmem 508 (by decide +kernel) rfl), (zmem 1 (by decide +kernel) rfl), ⟨by decide +kernel, by decide +kernel, by decide +kernel⟩⟩
theorem kv_Law_47 : zVf "LayerVaultLaw" 47 y_Md_take b_Md_take 2 (some .int) 8 0 := ⟨_, rfl, rfl, (zmem 815 (by decide +kernel) rfl), (zmem 816 (by decide +kernel) rfl), (zmem 817 (by decide +kernel) rfl), (zmem 818 (by decide +kernel) rfl), (zmem 8 (by decide +kernel) rfl), ⟨by decide +kernel, by decide +kernel, by decide +kernel⟩⟩
theorem kv_Law_44 : zVf "LayerVaultLaw" 44 y_V_take b_V_take 2 (some .int) 0 0 := ⟨_, rfl, rfl, (zmem 528 (by decide +kernel) rfl), (zmem 529 (by decide +kernel) rfl), (zmem 530 (by decide +kernel) rfl), (zmem 531 (by decide +kernel) rfl), (zmem 1 (by decide +kernel) rfl), ⟨by decide +kernel, by decide +kernel, by decide +kernel⟩⟩
theorem kv_Law_52 : zVf "LayerVaultLaw" 52 y_Md_release b_Md_release 3 (some .boolean) 8 1 := ⟨_, rfl, rfl, (zmem 819 (by decide +kernel) rfl), (zmem 820 (by decide +kernel) rfl), (zmem 821 (by decide +kernel) rfl), (zmem 822 (by decide +kernel) rfl), (zmem 8 (by decide +kernel) rfl), ⟨by decide +kernel, by decide +kernel, by decide +kernel⟩⟩
theorem kv_Law_48 : zVf "LayerVaultLaw" 48 y_V_release b_V_release 2 (some .boolean) 0 1 := ⟨_, rfl, rfl, (zmem 532 (by decide +kernel) rfl), (zmem 533 (by decide +kernel) rfl), (zmem 534 (by decide +kernel) rfl), (zmem 535 (by decide +kernel) rfl), (zmem 1 (by decide +kernel) rfl), ⟨by decide +kernel, by decide +kernel, by decide +kernel⟩⟩
theorem kv_Law_56 : zVf "LayerVaultLaw" 56 y_Md_tick b_Md_tick 2 (some .int) 8 1 := ⟨_, rfl, rfl, (zmem 823 (by decide +kernel) rfl), (zmem 824 (by decide +kernel) rfl), (zmem 825 (by decide +kernel) rfl), (zmem 826 (by decide +kernel) rfl), (zmem 8 (by decide +kernel) rfl), ⟨by decide +kernel, by decide +kernel, by decide +kernel⟩⟩
theorem kv_Law_53 : zVf "LayerVaultLaw" 53 y_V_tick b_V_tick 2 (some .int) 0 1 := ⟨_, rfl, rfl, (zmem 536 (by decide +kernel) rfl), (zmem 537 (by decide +kernel) rfl), (zmem 538 (by decide +kernel) rfl), (zmem 539 (by decide +kernel) rfl), (zmem 1 (by decide +kernel) rfl), ⟨by decide +kernel, by decide +kernel, by decide +kernel⟩⟩
theorem kv_Law_60 : zVf "LayerVaultLaw" 60 y_Md_crash b_Md_crash 5 (some .int) 8 1 := ⟨_, rfl, rfl, (zmem 827 (by decide +kernel) rfl), (zmem 828 (by decide +kernel) rfl), (zmem 829 (by decide +kernel) rfl), (zmem 830 (by decide +kernel) rfl), (zmem 8 (by decide +kernel) rfl), ⟨by decide +kernel, by decide +kernel, by decide +kernel⟩⟩
theorem kv_Law_57 : zVf "LayerVaultLaw" 57 y_V_crash b_V_crash 5 (some .int) 0 1 := ⟨_, rfl, rfl, (zmem 540 (by decide +kernel) rfl), (zmem 541 (by decide +kernel) rfl), (zmem 542 (by decide +kernel) rfl), (zmem 543 (by decide +kernel) rfl), (zmem 1 (by decide +kernel) rfl), ⟨by decide +kernel, by decide +kernel, by decide +kernel⟩⟩
theorem kv_Law_65 : zVf "LayerVaultLaw" 65 y_Md_has b_Md_has 4 (some .boolean) 8 2 := ⟨_, rfl, rfl, (zmem 831 (by decide +kernel) rfl), (zmem 832 (by decide +kernel) rfl), (zmem 833 (by decide +kernel) rfl), (zmem 834 (by decide +kernel) rfl), (zmem 8 (by decide +kernel) rfl), ⟨by decide +kernel, by decide +kernel, by decide +kernel⟩⟩
theorem kv_Law_61 : zVf "LayerVaultLaw" 61 y_V_has b_V_has 3 (some .boolean) 0 2 := ⟨_, rfl, rfl, (zmem 555 (by decide +kernel) rfl), (zmem 556 (by decide +kernel) rfl), (zmem 557 (by decide +kernel) rfl), (zmem 558 (by decide +kernel) rfl), (zmem 1 (by decide +kernel) rfl), ⟨by decide +kernel, by decide +kernel, by decide +kernel⟩⟩
theorem kv_Law_70 : zVf "LayerVaultLaw" 70 y_Md_get b_Md_get 4 (some .int) 8 2 := ⟨_, rfl, rfl, (zmem 875 (by decide +kernel) rfl), (zmem 876 (by decide +kernel) rfl), (zmem 877 (by decide +kernel) rfl), (zmem 878 (by decide +kernel) rfl), (zmem 8 (by decide +kernel) rfl), ⟨by decide +kernel, by decide +kernel, by decide +kernel⟩⟩
theorem kv_Law_66 : zVf "LayerVaultLaw" 66 y_V_get b_V_get 4 (some .int) 0 2 := ⟨_, rfl, rfl, (zmem 585 (by decide +kernel) rfl), (zmem 586 (by decide +kernel) rfl), (zmem 587 (by decide +kernel) rfl), (zmem 588 (by decide +kernel) rfl), (zmem 1 (by decide +kernel) rfl), ⟨by decide +kernel, by decide +kernel, by decide +kernel⟩⟩
theorem kv_Law_74 : zVf "LayerVaultLaw" 74 y_Md_scan b_Md_scan 6 (some .int) 8 3 := ⟨_, rfl, rfl, (zmem 879 (by decide +kernel) rfl), (zmem 880 (by decide +kernel) rfl), (zmem 881 (by decide +kernel) rfl), (zmem 882 (by decide +kernel) rfl), (zmem 8 (by decide +kernel) rfl), ⟨by decide +kernel, by decide +kernel, by decide +kernel⟩⟩
theorem kv_Law_71 : zVf "LayerVaultLaw" 71 y_V_scan b_V_scan 8 (some .int) 0 3 := ⟨_, rfl, rfl, (zmem 589 (by decide +kernel) rfl), (zmem 590 (by decide +kernel) rfl), (zmem 591 (by decide +kernel) rfl), (zmem 592 (by decide +kernel) rfl), (zmem 1 (by decide +kernel) rfl), ⟨by decide +kernel, by decide +kernel, by decide +kernel⟩⟩
theorem kv_Law_78 : zVf "LayerVaultLaw" 78 y_Md_probes b_Md_probes 1 (some .int) 8 0 := ⟨_, rfl, rfl, (zmem 887 (by decide +kernel) rfl), (zmem 888 (by decide +kernel) rfl), (zmem 889 (by decide +kernel) rfl), (zmem 890 (by decide +kernel) rfl), (zmem 8 (by decide +kernel) rfl), ⟨by decide +kernel, by decide +kernel, by decide +kernel⟩⟩
theorem kv_Law_75 : zVf "LayerVaultLaw" 75 y_V_probes b_V_probes 1 (some .int) 0 0 := ⟨_, rfl, rfl, (zmem 595 (by decide +kernel) rfl), (zmem 596 (by decide +kernel) rfl), (zmem 597 (by decide +kernel) rfl), (zmem 598 (by decide +kernel) rfl), (zmem 1 (by decide +kernel) rfl), ⟨by decide +kernel, by decide +kernel, by decide +kernel⟩⟩
theorem kv_Law_82 : zVf "LayerVaultLaw" 82 y_Md_table b_Md_table 8 (some .int) 8 3 := ⟨_, rfl, rfl, (zmem 891 (by decide +kernel) rfl), (zmem 892 (by decide +kernel) rfl), (zmem 893 (by decide +kernel) rfl), (zmem 894 (by decide +kernel) rfl), (zmem 8 (by decide +kernel) rfl), ⟨by decide +kernel, by decide +kernel, by decide +kernel⟩⟩
theorem kv_Law_79 : zVf "LayerVaultLaw" 79 y_V_table b_V_table 8 (some .int) 0 3 := ⟨_, rfl, rfl, (zmem 599 (by decide +kernel) rfl), (zmem 600 (by decide +kernel) rfl), (zmem 601 (by decide +kernel) rfl), (zmem 602 (by decide +kernel) rfl), (zmem 1 (by decide +kernel) rfl), ⟨by decide +kernel, by decide +kernel, by decide +kernel⟩⟩
theorem kv_Law_86 : zVf "LayerVaultLaw" 86 y_Md_segment b_Md_segment 4 (some .int) 8 2 := ⟨_, rfl, rfl, (zmem 895 (by decide +kernel) rfl), (zmem 896 (by decide +kernel) rfl), (zmem 897 (by decide +kernel) rfl), (zmem 898 (by decide +kernel) rfl), (zmem 8 (by decide +kernel) rfl), ⟨by decide +kernel, by decide +kernel, by decide +kernel⟩⟩
theorem kv_Law_83 : zVf "LayerVaultLaw" 83 y_V_segment b_V_segment 5 (some .int) 0 2 := ⟨_, rfl, rfl, (zmem 603 (by decide +kernel) rfl), (zmem 604 (by decide +kernel) rfl), (zmem 605 (by decide +kernel) rfl), (zmem 606 (by decide +kernel) rfl), (zmem 1 (by decide +kernel) rfl), ⟨by decide +kernel, by decide +kernel, by decide +kernel⟩⟩
theorem kv_Law_90 : zVf "LayerVaultLaw" 90 y_Md_look b_Md_look 2 (some .int) 8 1 := ⟨_, rfl, rfl, (zmem 899 (by decide +kernel) rfl), (zmem 900 (by decide +kernel) rfl), (zmem 901 (by decide +kernel) rfl), (zmem 902 (by decide +kernel) rfl), (zmem 8 (by decide +kernel) rfl), ⟨by decide +kernel, by decide +kernel, by decide +kernel⟩⟩
theorem kv_Law_87 : zVf "LayerVaultLaw" 87 y_V_look b_V_look 7 (some .int) 0 1 := ⟨_, rfl, rfl, (zmem 607 (by decide +kernel) rfl), (zmem 608 (by decide +kernel) rfl), (zmem 609 (by decide +kernel) rfl), (zmem 610 (by decide +kernel) rfl), (zmem 1 (by decide +kernel) rfl), ⟨by decide +kernel, by decide +kernel, by decide +kernel⟩⟩
theorem ki_Law_12 : zIf "LayerVaultLaw" 12 y_Md_init b_Md_init 1 0 := ⟨Or.inl (zmem 613 (by decide +kernel) rfl), (zmem 614 (by decide +kernel) rfl), (zmem 615 (by decide +kernel) rfl), (zmem 8 (by decide +kernel) rfl), ⟨by decide +kernel, by decide +kernel, by decide +kernel⟩, rfl⟩
theorem ki_Law_9 : zIf "LayerVaultLaw" 9 y_V_init b_V_init 2 0 := ⟨Or.inl (zmem 13 (by decide +kernel) rfl), (zmem 14 (by decide +kernel) rfl), (zmem 15 (by decide +kernel) rfl), (zmem 1 (by decide +kernel) rfl), ⟨by decide +kernel, by decide +kernel, by decide +kernel⟩, rfl⟩
