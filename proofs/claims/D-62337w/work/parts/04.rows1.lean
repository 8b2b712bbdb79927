section ZROW
variable {D : va_G} {n0 : Nat} {p : Program} {l : Launch} {e : Env} {R : Room} {s : State} {m : MethodId} {args : Array Value} {below : List Frame} {meth : Method} {c : Code} {cells slots : Nat} {Q : State → Prop} {cc : ByteArray} {nL : Nat} {own : String} {pc : Nat} {L : List (Option Value)} {st : List Value} {M : zHp}
/-- what holds of the machine all through a method -/
def zC (D : va_G) (n0 : Nat) (p : Program) (s : State) (m : MethodId) (meth : Method) (c : Code) (cc : ByteArray) (nL : Nat) (own : String) : Prop :=
  p.tables.exec = Jvm.exec ∧ c.code = cc ∧ c.maxLocals = nL ∧ s.vm.findClass own = some m.cls ∧ zT s ∧ va_K D zcl (ztys D) s ∧ n0 ≤ s.heap.size ∧ meth.locks = false
def zL (ls : Array Slot) (nL : Nat) (L : List (Option Value)) : Prop := ls.size = nL ∧ lv_wf ls ∧ ∀ (k : Nat) (v : Value), L[k]? = some (some v) → ls[k]? = some (.val v) ∧ v.category = 1
def zZ (D : va_G) (n0 : Nat) (p : Program) (l : Launch) (e : Env) (R : Room) (s : State) (m : MethodId) (args : Array Value) (below : List Frame) (meth : Method) (c : Code) (nL : Nat) (cells slots : Nat) (Q : State → Prop) (pc : Nat) (L : List (Option Value)) (st : List Value) (M : zHp) : Prop :=
  ∀ (ls : Array Slot) (H : Heap) (locs : List Loc), zL ls nL L → zR D n0 M H → va_S (fun q => n0 ≤ q) s.heap H locs → W p l e R s m args below meth c H locs cells slots Q (F0 m pc ls st)
def zpr (L : List (Option Value)) : List (Nat × Value) := (L.mapIdx (fun k o => o.map (fun v => (k, v)))).filterMap id
theorem zpr_mem {L : List (Option Value)} {k : Nat} {v : Value} : (k, v) ∈ zpr L ↔ L[k]? = some (some v) := by
  unfold zpr
  rw [List.mem_filterMap]
  constructor
  · rintro ⟨o, ho, hid⟩
    obtain ⟨j, hj⟩ := List.getElem?_of_mem ho
    rw [List.getElem?_mapIdx] at hj
    cases hL : L[j]? with
    | none => rw [hL] at hj; cases hj
    | some w =>
      rw [hL] at hj
      have h1 : w.map (fun v => (j, v)) = o := Option.some.inj hj
      have h2 : o = some (k, v) := hid
      rw [h2] at h1
      cases w with
      | none => cases h1
      | some u =>
        have h3 := Option.some.inj h1
        cases h3
        exact hL
  · intro h
    refine ⟨some (k, v), ?_, rfl⟩
    refine List.mem_of_getElem? (i := k) ?_
    rw [List.getElem?_mapIdx, h]
    rfl
theorem zL.has {ls : Array Slot} (h : zL ls nL L) : lv_has ls nL (zpr L) := ⟨h.1, h.2.1, fun q hq => (h.2.2 q.1 q.2 (zpr_mem.mp hq)).1⟩
theorem zL.stored {ls ls' : Array Slot} {i : Nat} {v : Value} (h : zL ls nL L) (hc : v.category = 1) (h' : lv_has ls' nL ((i, v) :: (zpr L).filter (fun q => !(q.1 == i) && !(q.1 + 1 == i && q.2.category == 2)))) : zL ls' nL (L.set i (some v)) := by
  refine ⟨h'.1, h'.2.1, fun k w hk => ?_⟩
  by_cases hki : i = k
  · subst hki
    rw [List.getElem?_set] at hk
    simp only [if_true] at hk
    split at hk
    · cases hk
      exact ⟨h'.2.2 (i, v) List.mem_cons_self, hc⟩
    · cases hk
  · rw [List.getElem?_set_ne hki] at hk
    have h1 := (h.2.2 k w hk).2
    refine ⟨h'.2.2 (k, w) (List.mem_cons_of_mem _ (List.mem_filter.mpr ⟨zpr_mem.mpr hk, ?_⟩)), h1⟩
    simp [h1]
    exact fun q => hki q.symm
theorem zL.sub {ls : Array Slot} {L' : List (Option Value)} (h : zL ls nL L) (hs : ∀ (k : Nat) (v : Value), L'[k]? = some (some v) → L[k]? = some (some v)) : zL ls nL L' := ⟨h.1, h.2.1, fun k v hk => h.2.2 k v (hs k v hk)⟩
/-- L' says no more than L -/
def zsb : List (Option Value) → List (Option Value) → Prop
  | [], _ => True
  | none :: t, _ :: u => zsb t u
  | none :: t, [] => zsb t []
  | some v :: t, some w :: u => v = w ∧ zsb t u
  | some _ :: _, _ => False
theorem zsb_spec : ∀ (L' L : List (Option Value)), zsb L' L → ∀ (k : Nat) (v : Value), L'[k]? = some (some v) → L[k]? = some (some v)
  | [], _, _, k, v, hk => by simp at hk
  | none :: t, x :: u, h, k, v, hk => by
    cases k with
    | zero => simp at hk
    | succ k => exact zsb_spec t u h k v hk
  | none :: t, [], h, k, v, hk => by
    cases k with
    | zero => simp at hk
    | succ k => exact absurd (zsb_spec t [] h k v hk) (by simp)
  | some a :: t, some b :: u, h, k, v, hk => by
    cases k with
    | zero => rw [← h.1]; exact hk
    | succ k => exact zsb_spec t u h.2 k v hk
  | some a :: t, none :: u, h, k, v, hk => absurd h id
  | some a :: t, [], h, k, v, hk => absurd h id
theorem z_sub {L' : List (Option Value)} (hs : zsb L' L) (kk : zZ D n0 p l e R s m args below meth c nL cells slots Q pc L' st M) : zZ D n0 p l e R s m args below meth c nL cells slots Q pc L st M :=
  fun ls H locs hl hR hS => kk ls H locs (hl.sub (zsb_spec _ _ hs)) hR hS
theorem z_widen {k n : Nat} (h1 : cells ≤ k) (h2 : slots ≤ n) (kk : zZ D n0 p l e R s m args below meth c nL k n Q pc L st M) : zZ D n0 p l e R s m args below meth c nL cells slots Q pc L st M :=
  fun ls H locs hl hR hS => W.widen h1 h2 (kk ls H locs hl hR hS)
abbrev zN (D : va_G) (n0 : Nat) (p : Program) (l : Launch) (e : Env) (R : Room) (s : State) (m : MethodId) (args : Array Value) (below : List Frame) (meth : Method) (c : Code) (nL : Nat) (cells slots : Nat) (Q : State → Prop) (pc : Nat) (L : List (Option Value)) (st : List Value) (M : zHp) : Prop := zZ D n0 p l e R s m args below meth c nL cells slots Q pc L st M
theorem z_iconst (C : zC D n0 p s m meth c cc nL own) {n : Int} (hd : decode cc pc = .ok (.iconst n, 1)) (kk : zZ D n0 p l e R s m args below meth c nL cells slots Q (pc + 1) L (zi n :: st) M) : zZ D n0 p l e R s m args below meth c nL cells slots Q pc L (st) M :=
  fun ls H locs hl hR hS => lv_iconst C.1 C.2.1 hd rfl (kk ls H locs hl hR hS)
theorem z_bipush (C : zC D n0 p s m meth c cc nL own) {n : Int} (hd : decode cc pc = .ok (.bipush n, 2)) (hv : (Int8.ofInt n).toInt32 = Int32.ofInt n) (kk : zZ D n0 p l e R s m args below meth c nL cells slots Q (pc + 2) L (zi n :: st) M) : zZ D n0 p l e R s m args below meth c nL cells slots Q pc L (st) M :=
  fun ls H locs hl hR hS => lv_bipush C.1 C.2.1 hd hv (kk ls H locs hl hR hS)
theorem z_sipush (C : zC D n0 p s m meth c cc nL own) {n : Int} (hd : decode cc pc = .ok (.sipush n, 3)) (hv : (Int16.ofInt n).toInt32 = Int32.ofInt n) (kk : zZ D n0 p l e R s m args below meth c nL cells slots Q (pc + 3) L (zi n :: st) M) : zZ D n0 p l e R s m args below meth c nL cells slots Q pc L (st) M :=
  fun ls H locs hl hR hS => lv_sipush C.1 C.2.1 hd hv (kk ls H locs hl hR hS)
theorem z_ldc (C : zC D n0 p s m meth c cc nL own) {n : Int} {idx : Nat} (hw : Cond.constant own idx (Int32.ofInt n) ∈ ztb) (hd : decode cc pc = .ok (.ldc idx, 2)) (kk : zZ D n0 p l e R s m args below meth c nL cells slots Q (pc + 2) L (zi n :: st) M) : zZ D n0 p l e R s m args below meth c nL cells slots Q pc L (st) M :=
  fun ls H locs hl hR hS => lv_ldc C.1 C.2.1 C.2.2.2.1 (C.2.2.2.2.1.use _ hw) hd (kk ls H locs hl hR hS)
theorem z_ldcw (C : zC D n0 p s m meth c cc nL own) {n : Int} {idx : Nat} (hw : Cond.constant own idx (Int32.ofInt n) ∈ ztb) (hd : decode cc pc = .ok (.ldc_w idx, 3)) (kk : zZ D n0 p l e R s m args below meth c nL cells slots Q (pc + 3) L (zi n :: st) M) : zZ D n0 p l e R s m args below meth c nL cells slots Q pc L (st) M :=
  fun ls H locs hl hR hS => lv_ldcw C.1 C.2.1 C.2.2.2.1 (C.2.2.2.2.1.use _ hw) hd (kk ls H locs hl hR hS)
theorem z_null (C : zC D n0 p s m meth c cc nL own) (hd : decode cc pc = .ok (.aconst_null, 1)) (kk : zZ D n0 p l e R s m args below meth c nL cells slots Q (pc + 1) L (zv n0 0 :: st) M) : zZ D n0 p l e R s m args below meth c nL cells slots Q pc L (st) M :=
  fun ls H locs hl hR hS => lv_null C.1 C.2.1 hd (kk ls H locs hl hR hS)
theorem z_iload_n (C : zC D n0 p s m meth c cc nL own) {k : Fin 4} {x : Int} (hd : decode cc pc = .ok (.iload_n k, 1)) (h : L[(k : Nat)]? = some (some (zi x))) (kk : zZ D n0 p l e R s m args below meth c nL cells slots Q (pc + 1) L (zi x :: st) M) : zZ D n0 p l e R s m args below meth c nL cells slots Q pc L (st) M :=
  fun ls H locs hl hR hS => lv_iload_n C.1 C.2.1 hd rfl (hl.2.2 _ _ h).1 (kk ls H locs hl hR hS)
theorem z_iload (C : zC D n0 p s m meth c cc nL own) {k : Nat} {x : Int} (hd : decode cc pc = .ok (.iload k, 2)) (h : L[k]? = some (some (zi x))) (kk : zZ D n0 p l e R s m args below meth c nL cells slots Q (pc + 2) L (zi x :: st) M) : zZ D n0 p l e R s m args below meth c nL cells slots Q pc L (st) M :=
  fun ls H locs hl hR hS => lv_iload C.1 C.2.1 hd (hl.2.2 _ _ h).1 (kk ls H locs hl hR hS)
theorem z_aload_n (C : zC D n0 p s m meth c cc nL own) {k : Fin 4} {r : Nat} (hd : decode cc pc = .ok (.aload_n k, 1)) (h : L[(k : Nat)]? = some (some (zv n0 r))) (kk : zZ D n0 p l e R s m args below meth c nL cells slots Q (pc + 1) L (zv n0 r :: st) M) : zZ D n0 p l e R s m args below meth c nL cells slots Q pc L (st) M :=
  fun ls H locs hl hR hS => by
  have h1 := (hl.2.2 _ _ h).1
  have h2 := kk ls H locs hl hR hS
  cases r with
  | zero => exact lv_aload_nN C.1 C.2.1 hd rfl h1 h2
  | succ r => exact lv_aload_n C.1 C.2.1 hd rfl h1 h2
theorem z_aload (C : zC D n0 p s m meth c cc nL own) {k : Nat} {r : Nat} (hd : decode cc pc = .ok (.aload k, 2)) (h : L[k]? = some (some (zv n0 r))) (kk : zZ D n0 p l e R s m args below meth c nL cells slots Q (pc + 2) L (zv n0 r :: st) M) : zZ D n0 p l e R s m args below meth c nL cells slots Q pc L (st) M :=
  fun ls H locs hl hR hS => by
  have h1 := (hl.2.2 _ _ h).1
  have h2 := kk ls H locs hl hR hS
  cases r with
  | zero => exact lv_aloadN C.1 C.2.1 hd h1 h2
  | succ r => exact lv_aload C.1 C.2.1 hd h1 h2
theorem z_xload_n (C : zC D n0 p s m meth c cc nL own) {k : Fin 4} {b : Nat} (hd : decode cc pc = .ok (.aload_n k, 1)) (h : L[(k : Nat)]? = some (some (.ref b))) (kk : zZ D n0 p l e R s m args below meth c nL cells slots Q (pc + 1) L (.ref b :: st) M) : zZ D n0 p l e R s m args below meth c nL cells slots Q pc L (st) M :=
  fun ls H locs hl hR hS => lv_aload_n C.1 C.2.1 hd rfl (hl.2.2 _ _ h).1 (kk ls H locs hl hR hS)
theorem z_istore_n (C : zC D n0 p s m meth c cc nL own) {k : Fin 4} {x : Int} (hd : decode cc pc = .ok (.istore_n k, 1)) (hk : (k : Nat) < nL) (kk : zZ D n0 p l e R s m args below meth c nL cells slots Q (pc + 1) (L.set (k : Nat) (some (zi x))) (st) M) : zZ D n0 p l e R s m args below meth c nL cells slots Q pc L (zi x :: st) M :=
  fun ls H locs hl hR hS => lv_istore_n C.1 C.2.1 hd rfl hl.has hk rfl (fun ls2 h2 => kk ls2 H locs (hl.stored rfl h2) hR hS)
theorem z_istore (C : zC D n0 p s m meth c cc nL own) {k : Nat} {x : Int} (hd : decode cc pc = .ok (.istore k, 2)) (hk : k < nL) (kk : zZ D n0 p l e R s m args below meth c nL cells slots Q (pc + 2) (L.set k (some (zi x))) (st) M) : zZ D n0 p l e R s m args below meth c nL cells slots Q pc L (zi x :: st) M :=
  fun ls H locs hl hR hS => lv_istore C.1 C.2.1 hd hl.has hk rfl (fun ls2 h2 => kk ls2 H locs (hl.stored rfl h2) hR hS)
theorem z_astore_n (C : zC D n0 p s m meth c cc nL own) {k : Fin 4} {r : Nat} (hd : decode cc pc = .ok (.astore_n k, 1)) (hk : (k : Nat) < nL) (kk : zZ D n0 p l e R s m args below meth c nL cells slots Q (pc + 1) (L.set (k : Nat) (some (zv n0 r))) (st) M) : zZ D n0 p l e R s m args below meth c nL cells slots Q pc L (zv n0 r :: st) M :=
  fun ls H locs hl hR hS => by
  cases r with
  | zero => exact lv_astore_nN C.1 C.2.1 hd rfl hl.has hk rfl (fun ls2 h2 => kk ls2 H locs (hl.stored rfl h2) hR hS)
  | succ r => exact lv_astore_n C.1 C.2.1 hd rfl hl.has hk rfl (fun ls2 h2 => kk ls2 H locs (hl.stored rfl h2) hR hS)
theorem z_astore (C : zC D n0 p s m meth c cc nL own) {k : Nat} {r : Nat} (hd : decode cc pc = .ok (.astore k, 2)) (hk : k < nL) (kk : zZ D n0 p l e R s m args below meth c nL cells slots Q (pc + 2) (L.set k (some (zv n0 r))) (st) M) : zZ D n0 p l e R s m args below meth c nL cells slots Q pc L (zv n0 r :: st) M :=
  fun ls H locs hl hR hS => by
  cases r with
  | zero => exact lv_astoreN C.1 C.2.1 hd hl.has hk rfl (fun ls2 h2 => kk ls2 H locs (hl.stored rfl h2) hR hS)
  | succ r => exact lv_astore C.1 C.2.1 hd hl.has hk rfl (fun ls2 h2 => kk ls2 H locs (hl.stored rfl h2) hR hS)
theorem z_iinc (C : zC D n0 p s m meth c cc nL own) {k : Nat} {n x : Int} (hd : decode cc pc = .ok (.iinc k n, 3)) (h : L[k]? = some (some (zi x))) (hk : k < nL) (kk : zZ D n0 p l e R s m args below meth c nL cells slots Q (pc + 3) (L.set k (some (zi (zadd x n)))) (st) M) : zZ D n0 p l e R s m args below meth c nL cells slots Q pc L (st) M :=
  fun ls H locs hl hR hS => by
  obtain ⟨j, hj⟩ := List.getElem?_of_mem (zpr_mem.mpr h)
  exact lv_iinc (v := Int32.ofInt (zadd x n)) C.1 C.2.1 hd hl.has hj (by unfold zadd; rw [Int32.ofInt_toInt]) hk rfl (fun ls2 h2 => kk ls2 H locs (hl.stored (v := zi (zadd x n)) rfl h2) hR hS)
theorem z_iadd (C : zC D n0 p s m meth c cc nL own) {x y : Int} (hd : decode cc pc = .ok (.iadd, 1)) (kk : zZ D n0 p l e R s m args below meth c nL cells slots Q (pc + 1) L (zi (zadd x y) :: st) M) : zZ D n0 p l e R s m args below meth c nL cells slots Q pc L (zi y :: zi x :: st) M :=
  fun ls H locs hl hR hS => lv_iadd C.1 C.2.1 hd (by rw [zi_of]; exact kk ls H locs hl hR hS)
theorem z_isub (C : zC D n0 p s m meth c cc nL own) {x y : Int} (hd : decode cc pc = .ok (.isub, 1)) (kk : zZ D n0 p l e R s m args below meth c nL cells slots Q (pc + 1) L (zi (zsub x y) :: st) M) : zZ D n0 p l e R s m args below meth c nL cells slots Q pc L (zi y :: zi x :: st) M :=
  fun ls H locs hl hR hS => lv_isub C.1 C.2.1 hd (by rw [zi_of]; exact kk ls H locs hl hR hS)
theorem z_imul (C : zC D n0 p s m meth c cc nL own) {x y : Int} (hd : decode cc pc = .ok (.imul, 1)) (kk : zZ D n0 p l e R s m args below meth c nL cells slots Q (pc + 1) L (zi (zmul x y) :: st) M) : zZ D n0 p l e R s m args below meth c nL cells slots Q pc L (zi y :: zi x :: st) M :=
  fun ls H locs hl hR hS => lv_imul C.1 C.2.1 hd (by rw [zi_of]; exact kk ls H locs hl hR hS)
theorem z_ishl (C : zC D n0 p s m meth c cc nL own) {x y : Int} (hd : decode cc pc = .ok (.ishl, 1)) (kk : zZ D n0 p l e R s m args below meth c nL cells slots Q (pc + 1) L (zi (zshl x y) :: st) M) : zZ D n0 p l e R s m args below meth c nL cells slots Q pc L (zi y :: zi x :: st) M :=
  fun ls H locs hl hR hS => lv_ishl C.1 C.2.1 hd (by rw [zi_of]; exact kk ls H locs hl hR hS)
theorem z_ishr (C : zC D n0 p s m meth c cc nL own) {x y : Int} (hd : decode cc pc = .ok (.ishr, 1)) (kk : zZ D n0 p l e R s m args below meth c nL cells slots Q (pc + 1) L (zi (zshr x y) :: st) M) : zZ D n0 p l e R s m args below meth c nL cells slots Q pc L (zi y :: zi x :: st) M :=
  fun ls H locs hl hR hS => lv_ishr C.1 C.2.1 hd (by rw [zi_of]; exact kk ls H locs hl hR hS)
theorem z_iand (C : zC D n0 p s m meth c cc nL own) {x y : Int} (hd : decode cc pc = .ok (.iand, 1)) (kk : zZ D n0 p l e R s m args below meth c nL cells slots Q (pc + 1) L (zi (zand x y) :: st) M) : zZ D n0 p l e R s m args below meth c nL cells slots Q pc L (zi y :: zi x :: st) M :=
  fun ls H locs hl hR hS => lv_iand C.1 C.2.1 hd (by rw [zi_of]; exact kk ls H locs hl hR hS)
theorem z_ior (C : zC D n0 p s m meth c cc nL own) {x y : Int} (hd : decode cc pc = .ok (.ior, 1)) (kk : zZ D n0 p l e R s m args below meth c nL cells slots Q (pc + 1) L (zi (zor x y) :: st) M) : zZ D n0 p l e R s m args below meth c nL cells slots Q pc L (zi y :: zi x :: st) M :=
  fun ls H locs hl hR hS => lv_ior C.1 C.2.1 hd (by rw [zi_of]; exact kk ls H locs hl hR hS)
theorem z_idiv (C : zC D n0 p s m meth c cc nL own) {x y : Int} (hy : ¬ zeq y 0) (hd : decode cc pc = .ok (.idiv, 1)) (kk : zZ D n0 p l e R s m args below meth c nL cells slots Q (pc + 1) L (zi (zdiv x y) :: st) M) : zZ D n0 p l e R s m args below meth c nL cells slots Q pc L (zi y :: zi x :: st) M :=
  fun ls H locs hl hR hS => lv_idiv C.1 C.2.1 hd hy (by rw [zi_of]; exact kk ls H locs hl hR hS)
theorem z_irem (C : zC D n0 p s m meth c cc nL own) {x y : Int} (hy : ¬ zeq y 0) (hd : decode cc pc = .ok (.irem, 1)) (kk : zZ D n0 p l e R s m args below meth c nL cells slots Q (pc + 1) L (zi (zrem x y) :: st) M) : zZ D n0 p l e R s m args below meth c nL cells slots Q pc L (zi y :: zi x :: st) M :=
  fun ls H locs hl hR hS => lv_irem C.1 C.2.1 hd hy (by rw [zi_of]; exact kk ls H locs hl hR hS)
theorem z_dupi (C : zC D n0 p s m meth c cc nL own) {x : Int} (hd : decode cc pc = .ok (.dup, 1)) (kk : zZ D n0 p l e R s m args below meth c nL cells slots Q (pc + 1) L (zi x :: zi x :: st) M) : zZ D n0 p l e R s m args below meth c nL cells slots Q pc L (zi x :: st) M :=
  fun ls H locs hl hR hS => lv_dup C.1 C.2.1 hd rfl (kk ls H locs hl hR hS)
theorem z_dupr (C : zC D n0 p s m meth c cc nL own) {r : Nat} (hd : decode cc pc = .ok (.dup, 1)) (kk : zZ D n0 p l e R s m args below meth c nL cells slots Q (pc + 1) L (zv n0 r :: zv n0 r :: st) M) : zZ D n0 p l e R s m args below meth c nL cells slots Q pc L (zv n0 r :: st) M :=
  fun ls H locs hl hR hS => lv_dup C.1 C.2.1 hd (zv_cat _ _) (kk ls H locs hl hR hS)
theorem z_popi (C : zC D n0 p s m meth c cc nL own) {x : Int} (hd : decode cc pc = .ok (.pop, 1)) (kk : zZ D n0 p l e R s m args below meth c nL cells slots Q (pc + 1) L (st) M) : zZ D n0 p l e R s m args below meth c nL cells slots Q pc L (zi x :: st) M :=
  fun ls H locs hl hR hS => lv_pop C.1 C.2.1 hd rfl (kk ls H locs hl hR hS)
theorem z_icmp_eq (C : zC D n0 p s m meth c cc nL own) {x y off : Int} {tgt : Nat} (hd : decode cc pc = .ok (.if_icmp .eq off, 3)) (ht : (pc : Int) + off = (tgt : Int)) (kt : zeq x y → zZ D n0 p l e R s m args below meth c nL cells slots Q tgt L (st) M) (kf : ¬ zeq x y → zZ D n0 p l e R s m args below meth c nL cells slots Q (pc + 3) L (st) M) : zZ D n0 p l e R s m args below meth c nL cells slots Q pc L (zi y :: zi x :: st) M :=
  fun ls H locs hl hR hS => lv_icmp_eq C.1 C.2.1 hd ht (fun h => kt h ls H locs hl hR hS) (fun h => kf h ls H locs hl hR hS)
theorem z_if_eq (C : zC D n0 p s m meth c cc nL own) {x off : Int} {tgt : Nat} (hd : decode cc pc = .ok (.ifCond .eq off, 3)) (ht : (pc : Int) + off = (tgt : Int)) (kt : zeq x 0 → zZ D n0 p l e R s m args below meth c nL cells slots Q tgt L (st) M) (kf : ¬ zeq x 0 → zZ D n0 p l e R s m args below meth c nL cells slots Q (pc + 3) L (st) M) : zZ D n0 p l e R s m args below meth c nL cells slots Q pc L (zi x :: st) M :=
  fun ls H locs hl hR hS => lv_if_eq C.1 C.2.1 hd ht (fun h => kt h ls H locs hl hR hS) (fun h => kf h ls H locs hl hR hS)
theorem z_icmp_ne (C : zC D n0 p s m meth c cc nL own) {x y off : Int} {tgt : Nat} (hd : decode cc pc = .ok (.if_icmp .ne off, 3)) (ht : (pc : Int) + off = (tgt : Int)) (kt : ¬ zeq x y → zZ D n0 p l e R s m args below meth c nL cells slots Q tgt L (st) M) (kf : zeq x y → zZ D n0 p l e R s m args below meth c nL cells slots Q (pc + 3) L (st) M) : zZ D n0 p l e R s m args below meth c nL cells slots Q pc L (zi y :: zi x :: st) M :=
  fun ls H locs hl hR hS => lv_icmp_ne C.1 C.2.1 hd ht (fun h => kt h ls H locs hl hR hS) (fun h => kf h ls H locs hl hR hS)
theorem z_if_ne (C : zC D n0 p s m meth c cc nL own) {x off : Int} {tgt : Nat} (hd : decode cc pc = .ok (.ifCond .ne off, 3)) (ht : (pc : Int) + off = (tgt : Int)) (kt : ¬ zeq x 0 → zZ D n0 p l e R s m args below meth c nL cells slots Q tgt L (st) M) (kf : zeq x 0 → zZ D n0 p l e R s m args below meth c nL cells slots Q (pc + 3) L (st) M) : zZ D n0 p l e R s m args below meth c nL cells slots Q pc L (zi x :: st) M :=
  fun ls H locs hl hR hS => lv_if_ne C.1 C.2.1 hd ht (fun h => kt h ls H locs hl hR hS) (fun h => kf h ls H locs hl hR hS)
theorem z_icmp_lt (C : zC D n0 p s m meth c cc nL own) {x y off : Int} {tgt : Nat} (hd : decode cc pc = .ok (.if_icmp .lt off, 3)) (ht : (pc : Int) + off = (tgt : Int)) (kt : zlt x y → zZ D n0 p l e R s m args below meth c nL cells slots Q tgt L (st) M) (kf : ¬ zlt x y → zZ D n0 p l e R s m args below meth c nL cells slots Q (pc + 3) L (st) M) : zZ D n0 p l e R s m args below meth c nL cells slots Q pc L (zi y :: zi x :: st) M :=
  fun ls H locs hl hR hS => lv_icmp_lt C.1 C.2.1 hd ht (fun h => kt h ls H locs hl hR hS) (fun h => kf h ls H locs hl hR hS)
theorem z_if_lt (C : zC D n0 p s m meth c cc nL own) {x off : Int} {tgt : Nat} (hd : decode cc pc = .ok (.ifCond .lt off, 3)) (ht : (pc : Int) + off = (tgt : Int)) (kt : zlt x 0 → zZ D n0 p l e R s m args below meth c nL cells slots Q tgt L (st) M) (kf : ¬ zlt x 0 → zZ D n0 p l e R s m args below meth c nL cells slots Q (pc + 3) L (st) M) : zZ D n0 p l e R s m args below meth c nL cells slots Q pc L (zi x :: st) M :=
  fun ls H locs hl hR hS => lv_if_lt C.1 C.2.1 hd ht (fun h => kt h ls H locs hl hR hS) (fun h => kf h ls H locs hl hR hS)
theorem z_icmp_ge (C : zC D n0 p s m meth c cc nL own) {x y off : Int} {tgt : Nat} (hd : decode cc pc = .ok (.if_icmp .ge off, 3)) (ht : (pc : Int) + off = (tgt : Int)) (kt : zle y x → zZ D n0 p l e R s m args below meth c nL cells slots Q tgt L (st) M) (kf : ¬ zle y x → zZ D n0 p l e R s m args below meth c nL cells slots Q (pc + 3) L (st) M) : zZ D n0 p l e R s m args below meth c nL cells slots Q pc L (zi y :: zi x :: st) M :=
  fun ls H locs hl hR hS => lv_icmp_ge C.1 C.2.1 hd ht (fun h => kt h ls H locs hl hR hS) (fun h => kf h ls H locs hl hR hS)
theorem z_if_ge (C : zC D n0 p s m meth c cc nL own) {x off : Int} {tgt : Nat} (hd : decode cc pc = .ok (.ifCond .ge off, 3)) (ht : (pc : Int) + off = (tgt : Int)) (kt : zle 0 x → zZ D n0 p l e R s m args below meth c nL cells slots Q tgt L (st) M) (kf : ¬ zle 0 x → zZ D n0 p l e R s m args below meth c nL cells slots Q (pc + 3) L (st) M) : zZ D n0 p l e R s m args below meth c nL cells slots Q pc L (zi x :: st) M :=
  fun ls H locs hl hR hS => lv_if_ge C.1 C.2.1 hd ht (fun h => kt h ls H locs hl hR hS) (fun h => kf h ls H locs hl hR hS)
theorem z_icmp_gt (C : zC D n0 p s m meth c cc nL own) {x y off : Int} {tgt : Nat} (hd : decode cc pc = .ok (.if_icmp .gt off, 3)) (ht : (pc : Int) + off = (tgt : Int)) (kt : zlt y x → zZ D n0 p l e R s m args below meth c nL cells slots Q tgt L (st) M) (kf : ¬ zlt y x → zZ D n0 p l e R s m args below meth c nL cells slots Q (pc + 3) L (st) M) : zZ D n0 p l e R s m args below meth c nL cells slots Q pc L (zi y :: zi x :: st) M :=
  fun ls H locs hl hR hS => lv_icmp_gt C.1 C.2.1 hd ht (fun h => kt h ls H locs hl hR hS) (fun h => kf h ls H locs hl hR hS)
theorem z_if_gt (C : zC D n0 p s m meth c cc nL own) {x off : Int} {tgt : Nat} (hd : decode cc pc = .ok (.ifCond .gt off, 3)) (ht : (pc : Int) + off = (tgt : Int)) (kt : zlt 0 x → zZ D n0 p l e R s m args below meth c nL cells slots Q tgt L (st) M) (kf : ¬ zlt 0 x → zZ D n0 p l e R s m args below meth c nL cells slots Q (pc + 3) L (st) M) : zZ D n0 p l e R s m args below meth c nL cells slots Q pc L (zi x :: st) M :=
  fun ls H locs hl hR hS => lv_if_gt C.1 C.2.1 hd ht (fun h => kt h ls H locs hl hR hS) (fun h => kf h ls H locs hl hR hS)
theorem z_icmp_le (C : zC D n0 p s m meth c cc nL own) {x y off : Int} {tgt : Nat} (hd : decode cc pc = .ok (.if_icmp .le off, 3)) (ht : (pc : Int) + off = (tgt : Int)) (kt : zle x y → zZ D n0 p l e R s m args below meth c nL cells slots Q tgt L (st) M) (kf : ¬ zle x y → zZ D n0 p l e R s m args below meth c nL cells slots Q (pc + 3) L (st) M) : zZ D n0 p l e R s m args below meth c nL cells slots Q pc L (zi y :: zi x :: st) M :=
  fun ls H locs hl hR hS => lv_icmp_le C.1 C.2.1 hd ht (fun h => kt h ls H locs hl hR hS) (fun h => kf h ls H locs hl hR hS)
theorem z_if_le (C : zC D n0 p s m meth c cc nL own) {x off : Int} {tgt : Nat} (hd : decode cc pc = .ok (.ifCond .le off, 3)) (ht : (pc : Int) + off = (tgt : Int)) (kt : zle x 0 → zZ D n0 p l e R s m args below meth c nL cells slots Q tgt L (st) M) (kf : ¬ zle x 0 → zZ D n0 p l e R s m args below meth c nL cells slots Q (pc + 3) L (st) M) : zZ D n0 p l e R s m args below meth c nL cells slots Q pc L (zi x :: st) M :=
  fun ls H locs hl hR hS => lv_if_le C.1 C.2.1 hd ht (fun h => kt h ls H locs hl hR hS) (fun h => kf h ls H locs hl hR hS)
theorem z_goto (C : zC D n0 p s m meth c cc nL own) {off : Int} {tgt : Nat} (hd : decode cc pc = .ok (.goto off, 3)) (ht : (pc : Int) + off = (tgt : Int)) (kk : zZ D n0 p l e R s m args below meth c nL cells slots Q tgt L (st) M) : zZ D n0 p l e R s m args below meth c nL cells slots Q pc L (st) M :=
  fun ls H locs hl hR hS => lv_goto C.1 C.2.1 hd ht (kk ls H locs hl hR hS)
theorem z_ifnull (C : zC D n0 p s m meth c cc nL own) {r : Nat} {off : Int} {tgt : Nat} (hd : decode cc pc = .ok (.ifnull off, 3)) (ht : (pc : Int) + off = (tgt : Int)) (kt : r = 0 → zZ D n0 p l e R s m args below meth c nL cells slots Q tgt L (st) M) (kf : ¬ r = 0 → zZ D n0 p l e R s m args below meth c nL cells slots Q (pc + 3) L (st) M) : zZ D n0 p l e R s m args below meth c nL cells slots Q pc L (zv n0 r :: st) M := by
  intro ls H locs hl hR hS
  cases r with
  | zero => exact lv_ifnullN C.1 C.2.1 hd ht (kt rfl ls H locs hl hR hS)
  | succ r => exact lv_ifnull C.1 C.2.1 hd (kf (by omega) ls H locs hl hR hS)
theorem z_ifnonnull (C : zC D n0 p s m meth c cc nL own) {r : Nat} {off : Int} {tgt : Nat} (hd : decode cc pc = .ok (.ifnonnull off, 3)) (ht : (pc : Int) + off = (tgt : Int)) (kt : ¬ r = 0 → zZ D n0 p l e R s m args below meth c nL cells slots Q tgt L (st) M) (kf : r = 0 → zZ D n0 p l e R s m args below meth c nL cells slots Q (pc + 3) L (st) M) : zZ D n0 p l e R s m args below meth c nL cells slots Q pc L (zv n0 r :: st) M := by
  intro ls H locs hl hR hS
  cases r with
  | zero => exact lv_ifnonnullN C.1 C.2.1 hd (kf rfl ls H locs hl hR hS)
  | succ r => exact lv_ifnonnull C.1 C.2.1 hd ht (kt (by omega) ls H locs hl hR hS)
theorem zo_inj {n0 r q : Nat} : zo n0 r = zo n0 q ↔ r = q := by
  cases r <;> cases q <;> simp [zo]
theorem z_acmp_ne (C : zC D n0 p s m meth c cc nL own) {r q : Nat} {off : Int} {tgt : Nat} (hd : decode cc pc = .ok (.if_acmp .ne off, 3)) (ht : (pc : Int) + off = (tgt : Int)) (kt : ¬ r = q → zZ D n0 p l e R s m args below meth c nL cells slots Q tgt L (st) M) (kf : r = q → zZ D n0 p l e R s m args below meth c nL cells slots Q (pc + 3) L (st) M) : zZ D n0 p l e R s m args below meth c nL cells slots Q pc L (zv n0 q :: zv n0 r :: st) M :=
  fun ls H locs hl hR hS => lv_acmp_ne C.1 C.2.1 hd ht (fun h => kt (fun g => h (zo_inj.mpr g)) ls H locs hl hR hS) (fun h => kf (zo_inj.mp h) ls H locs hl hR hS)
theorem z_tswK (C : zC D n0 p s m meth c cc nL own) {x dflt lo hi : Int} {offs : Array Int} {len : Nat} (t : Int) {off : Int} {tgt : Nat} (hd : decode cc pc = .ok (.tableswitch dflt lo hi offs, len)) (hx : zeq x t) (h1 : ¬ (Int32.ofInt t).toInt < lo) (h2 : ¬ hi < (Int32.ofInt t).toInt) (ho : offs[((Int32.ofInt t).toInt - lo).toNat]? = some off) (ht : (pc : Int) + off = (tgt : Int)) (kk : zZ D n0 p l e R s m args below meth c nL cells slots Q tgt L (st) M) : zZ D n0 p l e R s m args below meth c nL cells slots Q pc L (zi x :: st) M := by
  intro ls H locs hl hR hS
  have hx' : Int32.ofInt x = Int32.ofInt t := hx
  show W p l e R s m args below meth c H locs cells slots Q (F0 m pc ls (.int (Int32.ofInt x) :: st))
  rw [hx']
  exact lv_tableIn C.1 C.2.1 hd h1 h2 ho ht (kk ls H locs hl hR hS)
theorem z_tswD (C : zC D n0 p s m meth c cc nL own) {x dflt lo hi : Int} {offs : Array Int} {len : Nat} {tgt : Nat} (hd : decode cc pc = .ok (.tableswitch dflt lo hi offs, len)) (hx : ∀ t : Int, lo ≤ t → t ≤ hi → ¬ zeq x t) (ht : (pc : Int) + dflt = (tgt : Int)) (kk : zZ D n0 p l e R s m args below meth c nL cells slots Q tgt L (st) M) : zZ D n0 p l e R s m args below meth c nL cells slots Q pc L (zi x :: st) M := by
  intro ls H locs hl hR hS
  refine lv_tableOut C.1 C.2.1 hd ?_ ht (kk ls H locs hl hR hS)
  by_cases g1 : (Int32.ofInt x).toInt < lo
  · exact Or.inl g1
  by_cases g2 : hi < (Int32.ofInt x).toInt
  · exact Or.inr g2
  refine absurd ?_ (hx (Int32.ofInt x).toInt (by omega) (by omega))
  show Int32.ofInt x = Int32.ofInt (Int32.ofInt x).toInt
  rw [Int32.ofInt_toInt]
end ZROW
