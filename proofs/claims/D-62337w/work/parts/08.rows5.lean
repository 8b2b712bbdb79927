section ZCON
variable {D : va_G} {n0 : Nat} {p : Program} {l : Launch} {e : Env} {R : Room} {s : State} {m : MethodId} {args : Array Value} {below : List Frame} {meth : Method} {c : Code} {cells slots : Nat} {Q : State → Prop} {cc : ByteArray} {nL : Nat} {own : String} {pc : Nat} {L : List (Option Value)} {st : List Value} {M M' M1 : zHp} {y : MethodName} {bytes : ByteArray} {maxL fr lo mc ms : Nat} {ret : Option FieldType} {av As rest : List Value} {o : Option Value}
def zPc (D : va_G) (n0 : Nat) (av : List Value) (M : zHp) : Array Value → State → Prop := fun v U => v = av.toArray ∧ zR D n0 M U.heap ∧ va_K D zcl (ztys D) U ∧ zT U
def zQc (D : va_G) (n0 : Nat) (o : Option Value) (M' : zHp) : Array Value → State → Outcome → State → Prop := fun _ st oc t => oc = .returned o ∧ zR D n0 M' t.heap ∧ va_F (fun q => n0 ≤ q) st t
/-- a method's contract, at one abstract start and end -/
def zM (D : va_G) (n0 : Nat) (l : Launch) (y : MethodName) (cc : ByteArray) (maxL : Nat) (ret : Option FieldType) (fr lo mc ms : Nat) (av : List Value) (M : zHp) (o : Option Value) (M' : zHp) : Prop :=
  Met l y [.code y cc maxL ret] { frames := fr, cells := mc, slots := ms, locals := lo } (zPc D n0 av M) (zQc D n0 o M') mc ms (fun q => n0 ≤ q)
theorem zPc.blind : FrameBlind (zPc D n0 av M) := fun a U g mk h => ⟨h.1, h.2.1, va_K.moved (u := U) (U := U.calling g mk a) (Vm.Alike.refl U.vm) h.2.2.1, zT.warm (s := U) (U := U.calling g mk a) (State.WarmedH.refl U) h.2.2.2⟩
def zargs (n : Nat) (av : List Value) : List (Option Value) := av.map some ++ List.replicate (n - av.length) none
theorem zargs_mem : ∀ (av : List Value) (i : Nat), (∀ v ∈ av, v.category = 1) → ∀ (k : Nat) (v : Value), av[k]? = some v → (i + k, v) ∈ lv_args i av
  | [], _, _, k, v, h => by simp at h
  | a :: av, i, hc, k, v, h => by
    have ha : ¬ a.category = 2 := by rw [hc a List.mem_cons_self]; decide
    unfold lv_args
    rw [if_neg ha]
    cases k with
    | zero =>
      rw [List.getElem?_cons_zero] at h
      cases h
      exact List.mem_cons_self
    | succ k =>
      rw [List.getElem?_cons_succ] at h
      have := zargs_mem av (i + 1) (fun v hv => hc v (List.mem_cons_of_mem _ hv)) k v h
      rw [show i + 1 + k = i + (k + 1) by omega] at this
      exact List.mem_cons_of_mem _ this
theorem zsl_len : ∀ (av : List Value), (∀ v ∈ av, v.category = 1) → (lg_sl av).length = av.length
  | [], _ => rfl
  | a :: av, hc => by
    have ha : ¬ a.category = 2 := by rw [hc a List.mem_cons_self]; decide
    have h := zsl_len av (fun v hv => hc v (List.mem_cons_of_mem _ hv))
    unfold lg_sl at h ⊢
    rw [List.flatMap_cons, List.length_append, h, if_neg ha]
    simp
    omega
theorem zM.ofZ (hy : plainName y.cls = true) (hcat : ∀ v ∈ av, v.category = 1) (hlen : av.length ≤ maxL)
    (body : ∀ (p : Program) (e : Env) (s : State) (m : MethodId) (below : List Frame) (meth : Method) (c : Code), zC D n0 p s m meth c cc maxL y.cls → meth.sig.returnType = ret → meth.name = y.name → zZ D n0 p l e { frames := fr, cells := mc, slots := ms, locals := lo } s m av.toArray below meth c maxL 0 0 (MQ below (zQc D n0 o M') av.toArray s mc ms (fun q => n0 ≤ q)) 0 (zargs maxL av) [] M) : zM D n0 l y cc maxL ret fr lo mc ms av M o M' := by
  refine Met.ofW (cc := cc) (maxL := maxL) (ret := ret) hy rfl ?_
  intro p e s m args below meth c s₁ B hml hv
  obtain ⟨rfl, hR, hK, hT⟩ := hv
  have C : zC D n0 p s m meth c cc maxL y.cls := ⟨B.exec, B.bytes, hml, findClass_of_methodNamed B.named, hT, hK, by rw [hR.2.1]; omega, B.notSynchronized⟩
  have hl := lv_entry av (n := maxL) (by rw [zsl_len av hcat]; exact hlen)
  rw [lg_entry_eq]
  refine body p e s m below meth c C B.returns (name_of_methodNamed B.named B.method).1 _ s.heap [] ⟨hl.1, hl.2.1, fun k v hk => ?_⟩ hR va_S.rf
  unfold zargs at hk
  by_cases hkl : k < av.length
  · rw [List.getElem?_append_left (by rw [List.length_map]; exact hkl), List.getElem?_map] at hk
    have hv : av[k]? = some v := by
      cases h : av[k]? with
      | none => rw [h] at hk; cases hk
      | some w => rw [h] at hk; cases hk; rfl
    have h0 := zargs_mem av 0 hcat k v hv
    rw [Nat.zero_add] at h0
    exact ⟨hl.2.2 _ h0, hcat v (List.mem_of_getElem? hv)⟩
  · rw [List.getElem?_append_right (by rw [List.length_map]; omega), List.getElem?_replicate] at hk
    split at hk
    · have := Option.some.inj hk; cases this
    · cases hk
theorem z_iret (C : zC D n0 p s m meth c cc nL own) {x r : Int} (hr : meth.sig.returnType = some .int) (hc : cells ≤ mc) (hs : slots ≤ ms) (hd : decode cc pc = .ok (.ireturn, 1)) (hf : some (x, M) = some (r, M')) : zZ D n0 p l e R s m args below meth c nL cells slots (MQ below (zQc D n0 (some (zi r)) M') args s mc ms (fun q => n0 ≤ q)) pc L [zi x] M := by
  cases hf
  intro ls H locs hl hR hS
  have hlk := C.2.2.2.2.2.2.2
  exact W.widen hc hs (W.iret C.1 C.2.1 hr (fun t ht hW => ⟨rfl, by rw [ht]; exact hR, hS.F ht⟩) hS.2.2 hd)
theorem z_zret (C : zC D n0 p s m meth c cc nL own) {x r : Int} (hr : meth.sig.returnType = some .boolean) (hb : zbl x = true) (hc : cells ≤ mc) (hs : slots ≤ ms) (hd : decode cc pc = .ok (.ireturn, 1)) (hf : some (x, M) = some (r, M')) : zZ D n0 p l e R s m args below meth c nL cells slots (MQ below (zQc D n0 (some (zi r)) M') args s mc ms (fun q => n0 ≤ q)) pc L [zi x] M := by
  cases hf
  intro ls H locs hl hR hS
  have hlk := C.2.2.2.2.2.2.2
  exact W.widen hc hs (W.zret C.1 C.2.1 hr (by rcases zbl_inv hb with rfl | rfl <;> decide +kernel) (fun t ht hW => ⟨rfl, by rw [ht]; exact hR, hS.F ht⟩) hS.2.2 hd)
theorem z_aret (C : zC D n0 p s m meth c cc nL own) {x r : Nat} {rt : FieldType} (hr : meth.sig.returnType = some rt) (hrt : (∃ n, rt = .object n) ∨ ∃ t, rt = .array t) (hc : cells ≤ mc) (hs : slots ≤ ms) (hd : decode cc pc = .ok (.areturn, 1)) (hf : some (x, M) = some (r, M')) : zZ D n0 p l e R s m args below meth c nL cells slots (MQ below (zQc D n0 (some (zv n0 r)) M') args s mc ms (fun q => n0 ≤ q)) pc L [zv n0 x] M := by
  cases hf
  intro ls H locs hl hR hS
  have hlk := C.2.2.2.2.2.2.2
  exact W.widen hc hs (W.aret C.1 C.2.1 hr hrt (by cases x with | zero => exact Or.inl rfl | succ x => exact Or.inr ⟨_, rfl⟩) (fun t ht hW => ⟨rfl, by rw [ht]; exact hR, hS.F ht⟩) hS.2.2 hd)
theorem z_vret (C : zC D n0 p s m meth c cc nL own) (hr : meth.sig.returnType = none) (hc : cells ≤ mc) (hs : slots ≤ ms) (hd : decode cc pc = .ok (.return_, 1)) (hf : some M = some M') : zZ D n0 p l e R s m args below meth c nL cells slots (MQ below (zQc D n0 none M') args s mc ms (fun q => n0 ≤ q)) pc L [] M := by
  cases hf
  intro ls H locs hl hR hS
  have hlk := C.2.2.2.2.2.2.2
  exact W.widen hc hs (W.vret C.1 C.2.1 hr (fun t ht hW => ⟨rfl, by rw [ht]; exact hR, hS.F ht⟩) hS.2.2 hd)
-- calls
def zds (y : MethodName) (n : Nat) : Prop := y.cls ≠ "java/lang/invoke/MethodHandle" ∧ y.cls ≠ "java/lang/invoke/VarHandle" ∧ (parseMethodDescriptor y.desc).map (fun d => d.parameters.length) = some n
def zVf (own : String) (idx : Nat) (y : MethodName) (bytes : ByteArray) (maxL : Nat) (ret : Option FieldType) (ci n : Nat) : Prop :=
  ∃ q : vw_C, zcl[ci]? = some q ∧ y.cls = q.1 ∧ Cond.methodLink own idx y ∈ ztb ∧ Cond.instanceMethod y ∈ ztb ∧ Cond.selects q.1 y y ∈ ztb ∧ Cond.code y bytes maxL ret ∈ ztb ∧ Cond.initialized y.cls ∈ ztb ∧ zds y n
def zSf (own : String) (idx : Nat) (y : MethodName) (bytes : ByteArray) (maxL : Nat) (ret : Option FieldType) (n : Nat) : Prop :=
  Cond.methodLink own idx y ∈ ztb ∧ Cond.static y ∈ ztb ∧ Cond.code y bytes maxL ret ∈ ztb ∧ Cond.initialized y.cls ∈ ztb ∧ zds y n
def zIf (own : String) (idx : Nat) (y : MethodName) (bytes : ByteArray) (maxL : Nat) (n : Nat) : Prop :=
  (Cond.methodLink own idx y ∈ ztb ∨ ∃ host, Cond.methodLinkNest own idx y host ∈ ztb) ∧ Cond.instanceMethod y ∈ ztb ∧ Cond.code y bytes maxL none ∈ ztb ∧ Cond.initialized y.cls ∈ ztb ∧ zds y n ∧ y.name = "<init>"
def zNf (own : String) (idx : Nat) (x y : MethodName) (bytes : ByteArray) (maxL : Nat) (ret : Option FieldType) (ci n : Nat) : Prop :=
  ∃ q : vw_C, zcl[ci]? = some q ∧ Cond.methodLink own idx x ∈ ztb ∧ Cond.selects q.1 x y ∈ ztb ∧ Cond.instanceMethod y ∈ ztb ∧ Cond.code y bytes maxL ret ∈ ztb ∧ Cond.initialized y.cls ∈ ztb ∧ zds x n ∧ (q.1, x, y) ∈ zfw
theorem zds.len {n : Nat} (h : zds y n) : ∀ sig, parseMethodDescriptor y.desc = some sig → n = sig.parameters.length := fun sig hs => by
  have h2 := h.2.2
  rw [hs] at h2
  exact (Option.some.inj h2).symm
theorem zcat_sum : ∀ rest : List Value, (rest.map fun v => v.category).sum ≤ 2 * rest.length
  | [] => by simp
  | v :: t => by
    have h := zcat_sum t
    have h2 := lv_cat v
    simp only [List.map_cons, List.sum_cons, List.length_cons]
    omega
theorem zcode_hws (hT : zT s) (hc : Cond.code y bytes maxL ret ∈ ztb) : ∀ w ∈ [Cond.code y bytes maxL ret], ∀ (a' : Array Value) (U : State), s.WarmedH U.vm → w.before a' U = true := by
  intro w hw a' U hW
  rw [List.mem_singleton.mp hw]
  exact (hT.warm hW).use _ hc
theorem z_run {ls : Array Slot} {H : Heap} {locs : List Loc} {st0 : List Value} {a : Array Value} (C : zC D n0 p s m meth c cc nL own) (hl : zL ls nL L) (hR : zR D n0 M H) (hS : va_S (fun q => n0 ≤ q) s.heap H locs) (hr : va_Run p l e R s m args below meth c H locs cells slots mc ms (F0 m pc ls st0) rest (zQc D n0 o M1 a) (fun q => n0 ≤ q)) (kk : zZ D n0 p l e R s m args below meth c nL (cells + mc) (slots + ms) Q (pc + 3) L (o.toList ++ rest) M1) : W p l e R s m args below meth c H locs cells slots Q (F0 m pc ls st0) := by
  intro T hT X
  obtain ⟨v, st₀, t, T', L', h0, X', hL, e1, e2, ⟨hv, hR1, hz, hk⟩, go⟩ := hr T hT X
  cases hv
  rw [h0] at hz hk
  have hR1' : zR D n0 M1 T'.heap := by rw [e1]; exact hR1
  have hS1 : va_S (fun q => n0 ≤ q) s.heap T'.heap (locs ++ L') := ⟨Nat.le_trans hS.1 (by rw [e1]; exact hz), fun q h1 h2 => by rw [e1, hk q (Nat.lt_of_lt_of_le h1 hS.1) h2]; exact hS.2.1 q h1 h2, fun q hq => by
    rcases List.mem_append.mp hq with h | h
    · exact hS.2.2 q h
    · exact hL q h⟩
  obtain ⟨t2, a1, b1⟩ := kk ls T'.heap (locs ++ L') hl hR1' hS1 T' rfl X'
  exact ⟨t2, go t2 a1, b1⟩
theorem z_run5 {ls : Array Slot} {H : Heap} {locs : List Loc} {st0 : List Value} {a : Array Value} (C : zC D n0 p s m meth c cc nL own) (hl : zL ls nL L) (hR : zR D n0 M H) (hS : va_S (fun q => n0 ≤ q) s.heap H locs) (hr : va_Run5 p l e R s m args below meth c H locs cells slots mc ms (F0 m pc ls st0) rest (zQc D n0 o M1 a) (fun q => n0 ≤ q)) (kk : zZ D n0 p l e R s m args below meth c nL (cells + mc) (slots + ms) Q (pc + 5) L (o.toList ++ rest) M1) : W p l e R s m args below meth c H locs cells slots Q (F0 m pc ls st0) := by
  intro T hT X
  obtain ⟨v, st₀, t, T', L', h0, X', hL, e1, e2, ⟨hv, hR1, hz, hk⟩, go⟩ := hr T hT X
  cases hv
  rw [h0] at hz hk
  have hR1' : zR D n0 M1 T'.heap := by rw [e1]; exact hR1
  have hS1 : va_S (fun q => n0 ≤ q) s.heap T'.heap (locs ++ L') := ⟨Nat.le_trans hS.1 (by rw [e1]; exact hz), fun q h1 h2 => by rw [e1, hk q (Nat.lt_of_lt_of_le h1 hS.1) h2]; exact hS.2.1 q h1 h2, fun q hq => by
    rcases List.mem_append.mp hq with h | h
    · exact hS.2.2 q h
    · exact hL q h⟩
  obtain ⟨t2, a1, b1⟩ := kk ls T'.heap (locs ++ L') hl hR1' hS1 T' rfl X'
  exact ⟨t2, go t2 a1, b1⟩
theorem zpre (C : zC D n0 p s m meth c cc nL own) {H : Heap} (hR : zR D n0 M H) : ∀ U : State, U.heap = H → s.WarmedH U.vm → zPc D n0 av M av.toArray U :=
  fun U hU hW => ⟨rfl, by rw [hU]; exact hR, va_K.moved hW.alike C.2.2.2.2.2.1, C.2.2.2.2.1.warm hW⟩
theorem z_callV (C : zC D n0 p s m meth c cc nL own) {b ci idx : Nat} (As rest : List Value) (V : zVf own idx y bytes maxL ret ci As.length) (hM : zM D n0 l y bytes maxL ret fr lo mc ms (zv n0 b :: As) M o M1) (hk : zk M b = ci)
    (hRm : fr + 1 ≤ R.frames ∧ 8 + (maxL + 11) + lo ≤ R.locals) (hst : rest.length ≤ 4) (hf : cells + mc ≤ R.cells ∧ slots + ms ≤ R.slots) (hd : decode cc pc = .ok (.invokevirtual idx, 3)) (kk : zZ D n0 p l e R s m args below meth c nL (cells + mc) (slots + ms) Q (pc + 3) L (o.toList ++ rest) M1) : zZ D n0 p l e R s m args below meth c nL cells slots Q pc L (As.reverse ++ zv n0 b :: rest) M := by
  intro ls H locs hl hR hS
  obtain ⟨q, hq, hyc, w1, w2, w3, w4, w5, hds⟩ := V
  have hT := C.2.2.2.2.1
  obtain ⟨j, ce, rfl, hj, hce⟩ := zk_inv hk (by have := zcl_lt hq; omega)
  subst hce
  obtain ⟨cell, g1, g3, g2, hat⟩ := zobj C hR hj hq
  refine z_run C hl hR hS (va_runV (n := As.length) (C := q.1) (b := n0 + j) (As := As) (rest := rest) ⟨C.1, C.2.1, C.2.2.1, C.2.2.2.1, hT.use⟩ hM ⟨⟨rfl, rfl, hRm.1, hRm.2, zcode_hws hT w4, List.mem_singleton.mpr rfl, hT.use _ w4, hT.use _ w5, ⟨hds.1, hds.2.1⟩, hds.len, hT.use _ w1⟩, hT.use _ w2, hT.use _ w3⟩ ⟨zPc.blind, ⟨cell, g1, by rw [g3]; rfl, by rw [g2]; exact hat.1⟩, zpre C hR⟩ rfl rfl hl.1 rfl (lv_room (by have := zcat_sum rest; omega)) hd hf) kk
theorem z_callS (C : zC D n0 p s m meth c cc nL own) {idx : Nat} (As rest : List Value) (V : zSf own idx y bytes maxL ret As.length) (hM : zM D n0 l y bytes maxL ret fr lo mc ms As M o M1)
    (hRm : fr + 1 ≤ R.frames ∧ 8 + (maxL + 11) + lo ≤ R.locals) (hst : rest.length ≤ 4) (hf : cells + mc ≤ R.cells ∧ slots + ms ≤ R.slots) (hd : decode cc pc = .ok (.invokestatic idx, 3)) (kk : zZ D n0 p l e R s m args below meth c nL (cells + mc) (slots + ms) Q (pc + 3) L (o.toList ++ rest) M1) : zZ D n0 p l e R s m args below meth c nL cells slots Q pc L (As.reverse ++ rest) M := by
  intro ls H locs hl hR hS
  obtain ⟨w1, w2, w4, w5, hds⟩ := V
  have hT := C.2.2.2.2.1
  refine z_run C hl hR hS (va_runS (n := As.length) (As := As) (rest := rest) ⟨C.1, C.2.1, C.2.2.1, C.2.2.2.1, hT.use⟩ hM ⟨⟨rfl, rfl, hRm.1, hRm.2, zcode_hws hT w4, List.mem_singleton.mpr rfl, hT.use _ w4, hT.use _ w5, ⟨hds.1, hds.2.1⟩, hds.len, hT.use _ w1⟩, hT.use _ w2⟩ ⟨zPc.blind, zpre C hR⟩ rfl rfl hl.1 rfl (lv_room (by have := zcat_sum rest; omega)) hd hf) kk
theorem z_callI (C : zC D n0 p s m meth c cc nL own) {b idx : Nat} (As rest : List Value) (hb : 0 < b) (V : zIf own idx y bytes maxL As.length) (hM : zM D n0 l y bytes maxL none fr lo mc ms (zv n0 b :: As) M o M1)
    (hRm : fr + 1 ≤ R.frames ∧ 8 + (maxL + 11) + lo ≤ R.locals) (hst : rest.length ≤ 4) (hf : cells + mc ≤ R.cells ∧ slots + ms ≤ R.slots) (hd : decode cc pc = .ok (.invokespecial idx, 3)) (kk : zZ D n0 p l e R s m args below meth c nL (cells + mc) (slots + ms) Q (pc + 3) L (o.toList ++ rest) M1) : zZ D n0 p l e R s m args below meth c nL cells slots Q pc L (As.reverse ++ zv n0 b :: rest) M := by
  intro ls H locs hl hR hS
  obtain ⟨w1, w2, w4, w5, hds, hnm⟩ := V
  have hT := C.2.2.2.2.1
  obtain ⟨j, rfl⟩ : ∃ j, b = j + 1 := ⟨b - 1, by omega⟩
  rcases w1 with w1 | ⟨host, w1⟩
  · exact z_run C hl hR hS (va_runI (n := As.length) (b := n0 + j) (As := As) (rest := rest) ⟨C.1, C.2.1, C.2.2.1, C.2.2.2.1, hT.use⟩ hM ⟨⟨rfl, rfl, hRm.1, hRm.2, zcode_hws hT w4, List.mem_singleton.mpr rfl, hT.use _ w4, hT.use _ w5, ⟨hds.1, hds.2.1⟩, hds.len, hT.use _ w1⟩, hnm, hT.use _ w2⟩ ⟨zPc.blind, zpre C hR⟩ rfl rfl hl.1 rfl (lv_room (by have := zcat_sum rest; omega)) hd hf) kk
  · exact z_run C hl hR hS (va_runIN (n := As.length) (b := n0 + j) (As := As) (rest := rest) ⟨C.1, C.2.1, C.2.2.1, C.2.2.2.1, hT.use⟩ hM ⟨⟨⟨rfl, rfl, hRm.1, hRm.2, zcode_hws hT w4, List.mem_singleton.mpr rfl⟩, hT.use _ w4, hT.use _ w5, ⟨hds.1, hds.2.1⟩, hds.len, hT.use _ w1⟩, hnm, hT.use _ w2⟩ ⟨zPc.blind, zpre C hR⟩ rfl rfl hl.1 rfl (lv_room (by have := zcat_sum rest; omega)) hd hf) kk
theorem z_callN (C : zC D n0 p s m meth c cc nL own) {b ci idx cnt : Nat} {x : MethodName} (As rest : List Value) (V : zNf own idx x y bytes maxL ret ci As.length) (hM : zM D n0 l y bytes maxL ret fr lo mc ms (zv n0 b :: As) M o M1) (hk : zk M b = ci)
    (hRm : fr + 1 ≤ R.frames ∧ 8 + (maxL + 11) + lo ≤ R.locals) (hst : rest.length ≤ 4) (hf : cells + mc ≤ R.cells ∧ slots + ms ≤ R.slots) (hd : decode cc pc = .ok (.invokeinterface idx cnt, 5)) (kk : zZ D n0 p l e R s m args below meth c nL (cells + mc) (slots + ms) Q (pc + 5) L (o.toList ++ rest) M1) : zZ D n0 p l e R s m args below meth c nL cells slots Q pc L (As.reverse ++ zv n0 b :: rest) M := by
  intro ls H locs hl hR hS
  obtain ⟨q, hq, w1, w3, w2, w4, w5, hds, hfw⟩ := V
  have hT := C.2.2.2.2.1
  obtain ⟨j, ce, rfl, hj, hce⟩ := zk_inv hk (by have := zcl_lt hq; omega)
  subst hce
  obtain ⟨cell, g1, g3, g2, hat⟩ := zobj C hR hj hq
  have hF := hT.2 _ hfw
  refine z_run5 C hl hR hS (va_runF (n := As.length) (C := q.1) (b := n0 + j) (As := As) (rest := rest) hat ⟨C.1, C.2.1, C.2.2.1, C.2.2.2.1, hT.use⟩ hM ⟨⟨rfl, rfl, hRm.1, hRm.2, zcode_hws hT w4, List.mem_singleton.mpr rfl⟩, hT.use _ w1, va_any rfl hF.1, va_any rfl hF.2.1, hT.use _ w3, hT.use _ w2, va_any rfl hF.2.2.1, va_any rfl hF.2.2.2.1, va_any rfl hF.2.2.2.2, hT.use _ w5, hT.use _ w4, ⟨hds.1, hds.2.1⟩, hds.len⟩ ⟨zPc.blind, ⟨cell, g1, by rw [g3]; rfl, by rw [g2]; exact hat.1⟩, zpre C hR⟩ rfl rfl hl.1 rfl (lv_room (by have := zcat_sum rest; omega)) hd hf) kk
theorem z_objInit (C : zC D n0 p s m meth c cc nL own) {b idx : Nat} (hb : 0 < b) (w1 : Cond.methodLink own idx Lib.objectInit ∈ ztb) (w2 : Cond.instanceMethod Lib.objectInit ∈ ztb) (w3 : Cond.code Lib.objectInit ⟨#[0xb1]⟩ 1 none ∈ ztb) (hRm : 1 ≤ R.frames ∧ 20 ≤ R.locals) (hst : st.length ≤ 4) (hd : decode cc pc = .ok (.invokespecial idx, 3)) (kk : zZ D n0 p l e R s m args below meth c nL cells slots Q (pc + 3) L st M) : zZ D n0 p l e R s m args below meth c nL cells slots Q pc L (zv n0 b :: st) M := by
  intro ls H locs hl hR hS
  have hT := C.2.2.2.2.1
  obtain ⟨j, rfl⟩ : ∃ j, b = j + 1 := ⟨b - 1, by omega⟩
  refine W.objInit C.1 C.2.1 C.2.2.2.1 (hT.use _ w1) (hT.use _ w2) (hT.use _ w3) (a := n0 + j) (rest := st) rfl (by rw [C.2.2.1]; exact hl.1) rfl hd hRm.1 ?_ (kk ls H locs hl hR hS)
  have h1 := lv_room (m := m) (pc := pc) (ls := ls) (rest := zv n0 (j + 1) :: st) (st := st) (by have := zcat_sum st; omega)
  exact Nat.le_trans (Nat.add_le_add_right h1 12) hRm.2
end ZCON
