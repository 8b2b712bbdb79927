section ZWRAP
variable {D : va_G} {n0 : Nat} {p : Program} {l : Launch} {e : Env} {R : Room} {s : State} {m : MethodId} {args : Array Value} {below : List Frame} {meth : Method} {c : Code} {cells slots : Nat} {Q : State → Prop} {cc : ByteArray} {nL : Nat} {own : String} {pc : Nat} {L : List (Option Value)} {st : List Value} {M M' M1 : zHp} {y : MethodName} {bytes : ByteArray} {maxL fr lo mc ms : Nat} {ret : Option FieldType} {av As rest : List Value} {o : Option Value}
theorem z_pc {pc' : Nat} (h : pc = pc') (kk : zZ D n0 p l e R s m args below meth c nL cells slots Q pc' L st M) : zZ D n0 p l e R s m args below meth c nL cells slots Q pc L st M := h ▸ kk
theorem z_pl {pc' : Nat} {L' : List (Option Value)} (h : pc = pc') (hL : L = L') (kk : zZ D n0 p l e R s m args below meth c nL cells slots Q pc' L' st M) : zZ D n0 p l e R s m args below meth c nL cells slots Q pc L st M := h ▸ hL ▸ kk
theorem z_eqL {L' : List (Option Value)} (hL : L = L') (kk : zZ D n0 p l e R s m args below meth c nL cells slots Q pc L' st M) : zZ D n0 p l e R s m args below meth c nL cells slots Q pc L st M := hL ▸ kk
theorem z_sub2 {L' : List (Option Value)} (kk : zZ D n0 p l e R s m args below meth c nL cells slots Q pc L' st M) (hs : zsb L' L) : zZ D n0 p l e R s m args below meth c nL cells slots Q pc L st M := z_sub hs kk
/-- two results: a value and the heap -/
def zb2 {α β : Type} (o : Option (α × zHp)) (f : α → zHp → Option β) : Option β := o.bind fun q => f q.1 q.2
theorem zb2_some {α β : Type} (x : α) (M : zHp) (f : α → zHp → Option β) : zb2 (some (x, M)) f = f x M := rfl
theorem zb2_inv {α β : Type} {o : Option (α × zHp)} {f : α → zHp → Option β} {b : β} (h : zb2 o f = some b) : ∃ x M, o = some (x, M) ∧ f x M = some b := by
  unfold zb2 at h
  cases ho : o with
  | none => rw [ho] at h; cases h
  | some q => rw [ho] at h; exact ⟨q.1, q.2, rfl, h⟩
theorem zbind {α β : Type} {o : Option α} {f : α → Option β} {b : β} (h : o.bind f = some b) : ∃ x, o = some x ∧ f x = some b := by
  cases ho : o with
  | none => rw [ho] at h; cases h
  | some q => rw [ho] at h; exact ⟨q, rfl, h⟩
theorem zpos {α : Type} {P : Prop} {hP : Decidable P} {A B : Option α} {b : α} (c : P) (h : (if P then A else B) = some b) : A = some b := by rw [if_pos c] at h; exact h
theorem zneg {α : Type} {P : Prop} {hP : Decidable P} {A B : Option α} {b : α} (c : ¬ P) (h : (if P then A else B) = some b) : B = some b := by rw [if_neg c] at h; exact h
theorem zif {α : Type} {P : Prop} {hP : Decidable P} {A : Option α} {b : α} (h : (if P then A else none) = some b) : P ∧ A = some b := by
  by_cases c : P
  · rw [if_pos c] at h; exact ⟨c, h⟩
  · rw [if_neg c] at h; cases h
/-- the other way: nothing where P holds -/
theorem zifn {α : Type} {P : Prop} {hP : Decidable P} {A : Option α} {b : α} (h : (if P then none else A) = some b) : ¬ P ∧ A = some b := by
  by_cases c : P
  · rw [if_pos c] at h; cases h
  · rw [if_neg c] at h; exact ⟨c, h⟩
def znew (M : zHp) (ci : Nat) : Option (Nat × zHp) := some (zsz M, znO M ci)
def znaI (M : zHp) (kd : Nat) (N : Nat) (n : Int) : Option (Nat × zHp) := if 0 ≤ n ∧ n.toNat ≤ N then some (zsz M, znI M kd n) else none
def znaR (M : zHp) (kd : Nat) (N : Nat) (n : Int) : Option (Nat × zHp) := if 0 ≤ n ∧ n.toNat ≤ N then some (zsz M, znR M kd n) else none
theorem z_newO (C : zC D n0 p s m meth c cc nL own) {ci idx r : Nat} {q : vw_C} (N : Nat) (hq : zcl[ci]? = some q) (hN : q.2.2 = N) (hw : Cond.classLink own idx q.1 ∈ ztb) (hw2 : Cond.instantiable q.1 q.2.2 ∈ ztb) (hw3 : Cond.initialized q.1 ∈ ztb) (h : znew M ci = some (r, M1)) (hcells : cells + 1 ≤ R.cells) (hslots : slots + N ≤ R.slots) (hd : decode cc pc = .ok (.new idx, 3)) (kk : 0 < r → zZ D n0 p l e R s m args below meth c nL (cells + 1) (slots + N) Q (pc + 3) L (zv n0 r :: st) M1) : zZ D n0 p l e R s m args below meth c nL cells slots Q pc L st M := by
  cases h
  subst hN
  exact z_new C hq hw hw2 hw3 hcells hslots hd (kk (Nat.succ_pos _))
theorem z_newI (C : zC D n0 p s m meth c cc nL own) {n : Int} {N r : Nat} (hN2 : N ≤ 4096) (hw : Cond.arrayClass .int ∈ ztb) (h : znaI M 20 N n = some (r, M1)) (hcells : cells + 1 ≤ R.cells) (hslots : slots + N ≤ R.slots) (hd : decode cc pc = .ok (.newarray .int, 2)) (kk : zZ D n0 p l e R s m args below meth c nL (cells + 1) (slots + N) Q (pc + 2) L (zv n0 r :: st) M1) : zZ D n0 p l e R s m args below meth c nL cells slots Q pc L (zi n :: st) M := by
  obtain ⟨hN, h⟩ := zif h
  cases h
  exact z_newi C N hN hN2 hw hcells hslots hd kk
theorem z_newZ (C : zC D n0 p s m meth c cc nL own) {n : Int} {N r : Nat} (hN2 : N ≤ 4096) (hw : Cond.arrayClass .boolean ∈ ztb) (h : znaI M 21 N n = some (r, M1)) (hcells : cells + 1 ≤ R.cells) (hslots : slots + N ≤ R.slots) (hd : decode cc pc = .ok (.newarray .boolean, 2)) (kk : zZ D n0 p l e R s m args below meth c nL (cells + 1) (slots + N) Q (pc + 2) L (zv n0 r :: st) M1) : zZ D n0 p l e R s m args below meth c nL cells slots Q pc L (zi n :: st) M := by
  obtain ⟨hN, h⟩ := zif h
  cases h
  exact z_newz C N hN hN2 hw hcells hslots hd kk
theorem z_newR (C : zC D n0 p s m meth c cc nL own) {n : Int} {N kd idx r : Nat} {E : String} (hkd : 22 ≤ kd ∧ kd ≤ 26) (hE : zat kd = .object E) (hN2 : N ≤ 4096) (hw : Cond.classLink own idx E ∈ ztb) (hw2 : Cond.arrayOver (.object E) ∈ ztb) (h : znaR M kd N n = some (r, M1)) (hcells : cells + 1 ≤ R.cells) (hslots : slots + N ≤ R.slots) (hd : decode cc pc = .ok (.anewarray idx, 3)) (kk : zZ D n0 p l e R s m args below meth c nL (cells + 1) (slots + N) Q (pc + 3) L (zv n0 r :: st) M1) : zZ D n0 p l e R s m args below meth c nL cells slots Q pc L (zi n :: st) M := by
  obtain ⟨hN, h⟩ := zif h
  cases h
  exact z_newr C N hkd hE hN hN2 hw hw2 hcells hslots hd kk
def zmax (x y : Int) : Int := if zlt x y then y else x
def zmin (x y : Int) : Int := if zlt y x then y else x
theorem z_mmax (C : zC D n0 p s m meth c cc nL own) {idx : Nat} {x y : Int} (w1 : Cond.methodLink own idx Lib.Math.max.name ∈ ztb) (w2 : Cond.static Lib.Math.max.name ∈ ztb) (w3 : Cond.initialized "java/lang/Math" ∈ ztb) (w4 : Cond.code Lib.Math.max.name Lib.Math.max.code 2 (some .int) ∈ ztb) (hRm : 1 ≤ R.frames ∧ 21 ≤ R.locals) (hst : st.length ≤ 4) (hf : cells + 0 ≤ R.cells ∧ slots + 0 ≤ R.slots) (hd : decode cc pc = .ok (.invokestatic idx, 3)) (kk : zZ D n0 p l e R s m args below meth c nL cells slots Q (pc + 3) L (zi (zmax x y) :: st) M) : zZ D n0 p l e R s m args below meth c nL cells slots Q pc L (zi y :: zi x :: st) M := by
  intro ls H locs hl hR hS
  have hT := C.2.2.2.2.1
  have hk := kk ls H locs hl hR hS
  refine va_mmax C.1 C.2.1 (by rw [C.2.2.1]; exact hl.1.symm) C.2.2.2.1 (hT.use _ w1) (hT.use _ w2) (hT.use _ w3) (hT.use _ w4) hRm.1 (by have := zcat_sum st; omega) hf.1 hf.2 hd ?_
  have e : Value.int (if Int32.ofInt x < Int32.ofInt y then Int32.ofInt y else Int32.ofInt x) = zi (zmax x y) := by
    unfold zmax zi
    split <;> rfl
  rw [e]
  exact hk
theorem z_mmin (C : zC D n0 p s m meth c cc nL own) {idx : Nat} {x y : Int} (w1 : Cond.methodLink own idx Lib.Math.min.name ∈ ztb) (w2 : Cond.static Lib.Math.min.name ∈ ztb) (w3 : Cond.initialized "java/lang/Math" ∈ ztb) (w4 : Cond.code Lib.Math.min.name Lib.Math.min.code 2 (some .int) ∈ ztb) (hRm : 1 ≤ R.frames ∧ 21 ≤ R.locals) (hst : st.length ≤ 4) (hf : cells + 0 ≤ R.cells ∧ slots + 0 ≤ R.slots) (hd : decode cc pc = .ok (.invokestatic idx, 3)) (kk : zZ D n0 p l e R s m args below meth c nL cells slots Q (pc + 3) L (zi (zmin x y) :: st) M) : zZ D n0 p l e R s m args below meth c nL cells slots Q pc L (zi y :: zi x :: st) M := by
  intro ls H locs hl hR hS
  have hT := C.2.2.2.2.1
  have hk := kk ls H locs hl hR hS
  refine va_mmin C.1 C.2.1 (by rw [C.2.2.1]; exact hl.1.symm) C.2.2.2.1 (hT.use _ w1) (hT.use _ w2) (hT.use _ w3) (hT.use _ w4) hRm.1 (by have := zcat_sum st; omega) hf.1 hf.2 hd ?_
  have e : Value.int (if Int32.ofInt y < Int32.ofInt x then Int32.ofInt y else Int32.ofInt x) = zi (zmin x y) := by
    unfold zmin zi
    split <;> rfl
  rw [e]
  exact hk
theorem zcn : ∀ v ∈ ([] : List Value), v.category = 1 := fun _ h => absurd h List.not_mem_nil
theorem zci {x : Int} (h : ∀ v ∈ av, v.category = 1) : ∀ v ∈ zi x :: av, v.category = 1 := List.forall_mem_cons.mpr ⟨rfl, h⟩
theorem zcr {r : Nat} (h : ∀ v ∈ av, v.category = 1) : ∀ v ∈ zv n0 r :: av, v.category = 1 := List.forall_mem_cons.mpr ⟨zv_cat _ _, h⟩
end ZWRAP
/-- fuel of the loops that make no cells -/
def zfu : Nat := 600
