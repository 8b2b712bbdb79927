section ZROWJ
variable {D : va_G} {n0 : Nat} {p : Program} {l : Launch} {e : Env} {R : Room} {s : State} {m : MethodId} {args : Array Value} {below : List Frame} {meth : Method} {c : Code} {cells slots : Nat} {Q : State → Prop} {cc : ByteArray} {nL : Nat} {own : String} {pc : Nat} {L : List (Option Value)} {st : List Value} {M M' : zHp}
theorem zR_setA {H H1 : Heap} {j : Nat} {ce cn : zCel} (hR : zR D n0 M H) (hj : M[j]? = some ce) (h20 : ¬ cn.1 < 20) (hat : va_at D zcl (n0 + j, zE D n0 cn) H1) (z : H1.size = H.size) (oq : ∀ q, q ≠ n0 + j → H1[q]? = H[q]?) : zR D n0 (M.set j cn) H1 := by
  refine ⟨?_, by rw [List.length_set, z]; exact hR.2.1, ?_⟩
  · rw [zW_set]
    exact hR.1.set zD (zW_get hj) hat oq
  · intro i d hd hlt
    by_cases hij : j = i
    · subst hij
      rw [List.getElem?_set] at hd
      simp only [if_true] at hd
      split at hd
      · cases hd
        exact absurd hlt h20
      · cases hd
    · rw [List.getElem?_set_ne hij] at hd
      exact hR.2.2 i d hd hlt
theorem zgd_set {is : List Int} {k : Nat} {x : Int} (hk : k < is.length) (j : Nat) : (is.set k x).getD j 0 = if j = k then x else is.getD j 0 := by
  rw [List.getD_eq_getElem?_getD, List.getD_eq_getElem?_getD, List.getElem?_set]
  by_cases hjk : k = j
  · subst hjk
    simp [hk]
  · rw [if_neg hjk, if_neg (fun h => hjk h.symm)]
theorem zgd_setr {is : List Nat} {k : Nat} {x : Nat} (hk : k < is.length) (j : Nat) : (is.set k x).getD j 0 = if j = k then x else is.getD j 0 := by
  rw [List.getD_eq_getElem?_getD, List.getD_eq_getElem?_getD, List.getElem?_set]
  by_cases hjk : k = j
  · subst hjk
    simp [hk]
  · rw [if_neg hjk, if_neg (fun h => hjk h.symm)]
theorem zat_i {H1 : Heap} {j : Nat} {ce : zCel} {i x : Int} (h1 : ¬ ce.1 < 20) (h2 : ce.1 < 22) (hi : i.toNat < ce.2.1.length) (e : H1[n0 + j]? = some ((vp_cell (D.1 ce.1) (ce.2.1.length, .inl (fun j => Int32.ofInt (ce.2.1.getD j 0)))).setSlot i.toNat (zi x))) : va_at D zcl (n0 + j, zE D n0 (ce.1, ce.2.1.set i.toNat x, ce.2.2)) H1 := by
  rw [zE_int (ce := (ce.1, ce.2.1.set i.toNat x, ce.2.2)) h1 h2]
  show H1[n0 + j]? = some (vp_cell _ _)
  rw [e, vp_cell_i, vp_cell_i, arrV_store, List.length_set]
  congr 2
  funext q
  show updV _ _ _ q = .int (Int32.ofInt ((ce.2.1.set i.toNat x).getD q 0))
  rw [zgd_set hi]
  unfold updV
  by_cases hq : q = i.toNat
  · rw [if_pos hq, if_pos hq]; rfl
  · rw [if_neg hq, if_neg hq]
theorem zat_r {H1 : Heap} {j : Nat} {ce : zCel} {i : Int} {x : Nat} (h1 : ¬ ce.1 < 20) (h2 : ¬ ce.1 < 22) (hi : i.toNat < ce.2.2.length) (e : H1[n0 + j]? = some ((vp_cell (D.1 ce.1) (ce.2.2.length, .inr (.inr (.inr (.inr (fun j => zo n0 (ce.2.2.getD j 0))))))).setSlot i.toNat (zv n0 x))) : va_at D zcl (n0 + j, zE D n0 (ce.1, ce.2.1, ce.2.2.set i.toNat x)) H1 := by
  rw [zE_ref (ce := (ce.1, ce.2.1, ce.2.2.set i.toNat x)) h1 h2]
  show H1[n0 + j]? = some (vp_cell _ _)
  rw [e, vp_cell_q, vp_cell_q, arrV_store, List.length_set]
  congr 2
  funext q
  show updV _ _ _ q = va_rf (zo n0 ((ce.2.2.set i.toNat x).getD q 0))
  rw [zgd_setr hi]
  unfold updV
  by_cases hq : q = i.toNat
  · rw [if_pos hq, if_pos hq]; rfl
  · rw [if_neg hq, if_neg hq]
theorem z_iast (C : zC D n0 p s m meth c cc nL own) {r : Nat} {i x : Int} (h : stI M 20 r i x = some M') (hd : decode cc pc = .ok (.iastore, 1)) (kk : zZ D n0 p l e R s m args below meth c nL cells slots Q (pc + 1) L st M') : zZ D n0 p l e R s m args below meth c nL cells slots Q pc L (zi x :: zi i :: zv n0 r :: st) M := by
  obtain ⟨j, ce, rfl, hj, hc, h0, h1, hi, rfl⟩ := stI_inv h
  intro ls H locs hl hR hS
  have hw := zW_get (D := D) (n0 := n0) hj
  rw [zE_int (by omega) (by omega)] at hw
  refine W.iast C.1 C.2.1 (hR.1 j _ hw) (by rw [hc]; exact (C.2.2.2.2.2.1.2 0 _ rfl).1 _ _) (fun q => by cases q) (by show ¬ (_ ∨ (arrV _ _ _).slots.size ≤ _); rw [arrV_size]; exact zvin h0 h1 hi) rfl rfl hd fun H1 e z oq => ?_
  rw [(zix h0 h1).2] at e ⊢
  exact kk ls H1 _ hl (zR_setA hR hj (show ¬ ce.1 < 20 by omega) (zat_i (by omega) (by omega) hi e) z oq) (hS.put z oq (Nat.le_add_right _ _))
theorem z_bast (C : zC D n0 p s m meth c cc nL own) {r : Nat} {i x : Int} (h : stZ M 21 r i x = some M') (hd : decode cc pc = .ok (.bastore, 1)) (kk : zZ D n0 p l e R s m args below meth c nL cells slots Q (pc + 1) L st M') : zZ D n0 p l e R s m args below meth c nL cells slots Q pc L (zi x :: zi i :: zv n0 r :: st) M := by
  unfold stZ at h
  split at h
  · rename_i hb
    obtain ⟨j, ce, rfl, hj, hc, h0, h1, hi, rfl⟩ := stI_inv h
    intro ls H locs hl hR hS
    have hw := zW_get (D := D) (n0 := n0) hj
    rw [zE_int (by omega) (by omega)] at hw
    refine W.zast C.1 C.2.1 (hR.1 j _ hw) (by rw [hc]; exact (C.2.2.2.2.2.1.2 1 _ rfl).1 _ _) (fun q => by cases q) (by show ¬ (_ ∨ (arrV _ _ _).slots.size ≤ _); rw [arrV_size]; exact zvin h0 h1 hi) rfl rfl hd fun H1 e z oq => ?_
    rw [(zix h0 h1).2] at e ⊢
    have hnr : narrow .boolean (.int (Int32.ofInt x)) = zi x := by rcases zbl_inv hb with rfl | rfl <;> decide +kernel
    rw [hnr] at e
    exact kk ls H1 _ hl (zR_setA hR hj (show ¬ ce.1 < 20 by omega) (zat_i (by omega) (by omega) hi e) z oq) (hS.put z oq (Nat.le_add_right _ _))
  · cases h
theorem zk_inv {r k : Nat} (h : zk M r = k) (hk : k < 99) : ∃ (j : Nat) (ce : zCel), r = j + 1 ∧ M[j]? = some ce ∧ ce.1 = k := by
  unfold zk at h
  split at h
  · rename_i ce hg
    obtain ⟨j, e1, e2⟩ := zg_inv hg
    exact ⟨j, ce, e1, e2, h⟩
  · omega
/-- an object of the abstract heap, in the machine's heap -/
theorem zobj (C : zC D n0 p s m meth c cc nL own) {H : Heap} (hR : zR D n0 M H) {j : Nat} {ce : zCel} (hj : M[j]? = some ce) {q : vw_C} (hq : zcl[ce.1]? = some q) : ∃ cell : Cell, H[n0 + j]? = some cell ∧ cell.vm = .none ∧ cell.cls = D.1 ce.1 ∧ ClassAt s q.1 (D.1 ce.1) := by
  have hw := zW_get (D := D) (n0 := n0) hj
  rw [zE_obj (zcl20 hq)] at hw
  obtain ⟨r, h1r, cell, q1, q2, q3, q4⟩ := hR.1 j _ hw
  exact ⟨cell, q1, q3, q2, (C.2.2.2.2.2.1.1 ce.1 q hq).2⟩
/-- what an array of references takes may be stored there -/
theorem zasg (C : zC D n0 p s m meth c cc nL own) {kd k : Nat} (hk : ztk kd k = true) {q : vw_C} (hq : zcl[k]? = some q) (hat : ClassAt s q.1 (D.1 k)) {E : String} (hE : zat kd = .object E) (hkd : 22 ≤ kd ∧ kd ≤ 26) {comp : ClassId} (hcomp : s.vm.findClass E = some comp) : s.vm.assignable (D.1 k) comp = true := by
  have same : q.1 = E → s.vm.assignable (D.1 k) comp = true := fun h => by
    have h1 := hat.1
    rw [h, hcomp] at h1
    rw [Option.some.inj h1]
    exact va_assign hat
  have cast : Cond.castable q.1 E ∈ ztb → s.vm.assignable (D.1 k) comp = true := fun h => by
    obtain ⟨c0, t1, f1, f2, f3⟩ := Cond.castable_spec (C.2.2.2.2.1.use (args := #[]) _ h)
    cases hat.1.symm.trans f1
    cases hcomp.symm.trans f2
    exact f3
  rcases (show kd = 22 ∨ kd = 23 ∨ kd = 24 ∨ kd = 25 ∨ kd = 26 by omega) with rfl | rfl | rfl | rfl | rfl
  · have : k = 1 := by simpa [ztk] using hk
    subst this; cases hq; cases hE; exact same rfl
  · have : k = 4 := by simpa [ztk] using hk
    subst this; cases hq; cases hE; exact same rfl
  · have : k = 5 := by simpa [ztk] using hk
    subst this; cases hq; cases hE; exact same rfl
  · have : k = 6 := by simpa [ztk] using hk
    subst this; cases hq; cases hE; exact same rfl
  · have : k = 3 ∨ k = 5 ∨ k = 6 ∨ k = 7 := by simpa [ztk, or_assoc] using hk
    rcases this with rfl | rfl | rfl | rfl <;> cases hq <;> cases hE
    · exact cast (zmem 336 (by decide +kernel) rfl)
    · exact cast (zmem 330 (by decide +kernel) rfl)
    · exact cast (zmem 354 (by decide +kernel) rfl)
    · exact cast (zmem 342 (by decide +kernel) rfl)
theorem ztk_cl {kd k : Nat} (h : ztk kd k = true) : ∃ q, zcl[k]? = some q := by
  have hk : k < 9 := by
    unfold ztk at h
    split at h <;> simp at h <;> omega
  exact ⟨_, List.getElem?_eq_getElem (l := zcl) hk⟩
theorem z_aast (C : zC D n0 p s m meth c cc nL own) {kd r : Nat} {i : Int} {x : Nat} (hkd : 22 ≤ kd ∧ kd ≤ 26) (h : stR M kd r i x = some M') (hd : decode cc pc = .ok (.aastore, 1)) (kk : zZ D n0 p l e R s m args below meth c nL cells slots Q (pc + 1) L st M') : zZ D n0 p l e R s m args below meth c nL cells slots Q pc L (zv n0 x :: zi i :: zv n0 r :: st) M := by
  obtain ⟨j, ce, rfl, hj, hc, h0, h1, hi, hx, rfl⟩ := stR_inv h
  intro ls H locs hl hR hS
  have hw := zW_get (D := D) (n0 := n0) hj
  rw [zE_ref (by omega) (by omega)] at hw
  have hob : ∃ E, zat kd = .object E := by
    rcases (show kd = 22 ∨ kd = 23 ∨ kd = 24 ∨ kd = 25 ∨ kd = 26 by omega) with rfl | rfl | rfl | rfl | rfl <;> exact ⟨_, rfl⟩
  obtain ⟨E, hE⟩ := hob
  have hty := C.2.2.2.2.2.1.2 (kd - 20) _ (ztys_at D kd (by omega) (by omega))
  rw [hE] at hty
  cases x with
  | zero =>
    refine va_WaastN (C := E) C.1 C.2.1 (hR.1 j _ hw) (by rw [hc]; exact hty.1 _ _) (fun q => by cases q) (by show ¬ (_ ∨ (arrV _ _ _).slots.size ≤ _); rw [arrV_size]; exact zvin h0 h1 hi) rfl rfl hd fun H1 e z oq => ?_
    rw [(zix h0 h1).2] at e ⊢
    exact kk ls H1 _ hl (zR_setA hR hj (show ¬ ce.1 < 20 by omega) (zat_r (x := 0) (by omega) (by omega) hi e) z oq) (hS.put z oq (Nat.le_add_right _ _))
  | succ x =>
    have hx' : ztk kd (zk M (x + 1)) = true := by
      rcases hx with hx | hx
      · omega
      · exact hx
    obtain ⟨q, hq⟩ := ztk_cl hx'
    obtain ⟨j2, ce2, e1, hj2, hk2⟩ := zk_inv (M := M) (r := x + 1) rfl (by have := zcl_lt hq; omega)
    have e1' : j2 = x := by omega
    subst e1'
    rw [← hk2] at hx' hq
    obtain ⟨cellV, g1, g3, g2, hat⟩ := zobj C hR hj2 hq
    obtain ⟨kA, comp, k1, k2, k3, -⟩ := hty.2
    obtain ⟨kE, hkE, -⟩ := Vm.findClass_spec k3
    obtain ⟨kC, hkC, -⟩ := hat.2
    refine W.aast C.1 C.2.1 (hR.1 j _ hw) (fun q h => by cases h) (fun h => by cases h) (by rw [hc]; exact k1) k2 rfl hkE ⟨(zix h0 h1).1, by show _ < (arrV _ _ _).slots.size; rw [arrV_size, (zix h0 h1).2]; exact hi⟩ g1 (fun q h => by rw [g3] at h; cases h) (by rw [g2]; exact hkC) (by rw [g2]; exact zasg C hx' hq hat hE hkd k3) rfl rfl hd fun H1 e z oq => ?_
    rw [(zix h0 h1).2] at e ⊢
    exact kk ls H1 _ hl (zR_setA hR hj (show ¬ ce.1 < 20 by omega) (zat_r (x := j2 + 1) (by omega) (by omega) hi e) z oq) (hS.put z oq (Nat.le_add_right _ _))
theorem z_alen (C : zC D n0 p s m meth c cc nL own) {r : Nat} {x : Int} (h : zlen M r = some x) (hd : decode cc pc = .ok (.arraylength, 1)) (kk : zZ D n0 p l e R s m args below meth c nL cells slots Q (pc + 1) L (zi x :: st) M) : zZ D n0 p l e R s m args below meth c nL cells slots Q pc L (zv n0 r :: st) M := by
  unfold zlen at h
  split at h
  · rename_i ce hg
    obtain ⟨j, rfl, hj⟩ := zg_inv hg
    intro ls H locs hl hR hS
    have hw := zW_get (D := D) (n0 := n0) hj
    split at h
    · rename_i hk
      rw [zE_int (by omega) (by omega)] at hw
      cases h
      exact va_alen C.1 C.2.1 C.2.2.2.2.2.1 hR.1 j (ce.1 - 20) hw (ztys_at D ce.1 (by omega) (by omega)) rfl hd (kk ls H locs hl hR hS)
    · split at h
      · rename_i hk2 hk
        rw [zE_ref (by omega) (by omega)] at hw
        cases h
        exact va_alen C.1 C.2.1 C.2.2.2.2.2.1 hR.1 j (ce.1 - 20) hw (ztys_at D ce.1 (by omega) (by omega)) rfl hd (kk ls H locs hl hR hS)
      · cases h
  · cases h
-- new cells
theorem zR_push {H H1 : Heap} {cn : zCel} (hR : zR D n0 M H) (hn : cn.1 < 20 → cn.2.1.length = zni cn.1 ∧ cn.2.2.length = znr cn.1) (hat : va_at D zcl (n0 + M.length, zE D n0 cn) H1) (z : H1.size = n0 + M.length + 1) (oq : ∀ q, q < n0 + M.length → H1[q]? = H[q]?) : zR D n0 (M ++ [cn]) H1 := by
  refine ⟨?_, by rw [z, List.length_append]; rfl, zwf_push hR.2.2 hn⟩
  rw [zW_push]
  refine (hR.1.kept (fun k q hk => oq q.1 ?_)).app (fun k q hk => ?_)
  · rw [← hR.2.1]
    exact (hR.1 k q hk).lt
  · have hz : k < 1 := (List.getElem?_eq_some_iff.mp hk).1
    rw [show k = 0 by omega] at hk
    cases hk
    exact hat
theorem zS_push {H H1 : Heap} {locs : List Loc} (hS : va_S (fun q => n0 ≤ q) s.heap H locs) (z : H1.size = H.size + 1) (oq : ∀ q, q < H.size → H1[q]? = H[q]?) : va_S (fun q => n0 ≤ q) s.heap H1 locs :=
  ⟨Nat.le_trans hS.1 (by omega), fun x h1 h2 => (oq x (Nat.lt_of_lt_of_le h1 hS.1)).trans (hS.2.1 x h1 h2), hS.2.2⟩
theorem zgetD_rep {n q : Nat} : (List.replicate n (0 : Int)).getD q 0 = 0 := by
  rw [List.getD_eq_getElem?_getD, List.getElem?_replicate]
  split <;> rfl
theorem zgetD_repr {n q : Nat} : (List.replicate n (0 : Nat)).getD q 0 = 0 := by
  rw [List.getD_eq_getElem?_getD, List.getElem?_replicate]
  split <;> rfl
theorem z_newi (C : zC D n0 p s m meth c cc nL own) {n : Int} (N : Nat) (hN : 0 ≤ n ∧ n.toNat ≤ N) (hN2 : N ≤ 4096) (hw : Cond.arrayClass .int ∈ ztb) (hcells : cells + 1 ≤ R.cells) (hslots : slots + N ≤ R.slots) (hd : decode cc pc = .ok (.newarray .int, 2)) (kk : zZ D n0 p l e R s m args below meth c nL (cells + 1) (slots + N) Q (pc + 2) L (zv n0 (zsz M) :: st) (znI M 20 n)) : zZ D n0 p l e R s m args below meth c nL cells slots Q pc L (zi n :: st) M := by
  intro ls H locs hl hR hS
  have e : (Int32.ofInt n).toInt = n := Int32.toInt_ofInt_of_le (by omega) (by omega)
  have g1 : ¬ Int32.ofInt n < 0 := by rw [Int32.lt_iff_toInt_lt, e]; show ¬ n < 0; omega
  have g2 : (Int32.ofInt n).toNatClampNeg = n.toNat := by show (Int32.ofInt n).toInt.toNat = n.toNat; rw [e]
  refine va_newaK C.1 C.2.1 (atype := .int) (C.2.2.2.2.1.use _ hw) rfl hd rfl g1 g2 (by show n.toNat * 4 ≤ _; omega) hcells (by omega) hR.2.1 fun H1 cA e1 z1 o1 hAr hNm => ?_
  have hcA : cA = D.1 20 := Option.some.inj (hNm.symm.trans (C.2.2.2.2.2.1.2 0 _ rfl).2)
  subst hcA
  refine W.widen (Nat.le_refl _) (show slots + n.toNat ≤ slots + N by omega) ?_
  refine kk ls H1 locs hl (zR_push hR (fun h => absurd h (Nat.not_lt_of_le (Nat.le_of_ble_eq_true rfl))) ?_ z1 o1) (zS_push hS (by rw [z1, hR.2.1]) (by rw [hR.2.1]; exact o1))
  rw [zE_int (Nat.not_lt_of_le (Nat.le_of_ble_eq_true rfl)) (Nat.lt_of_lt_of_le (Nat.lt_succ_self _) (Nat.le_of_ble_eq_true rfl))]
  show H1[n0 + M.length]? = some (vp_cell _ _)
  rw [e1, vp_cell_i, List.length_replicate]
  congr 2
  funext q
  show _ = Value.int (Int32.ofInt ((List.replicate n.toNat (0 : Int)).getD q 0))
  rw [zgetD_rep]
  rfl
theorem z_newz (C : zC D n0 p s m meth c cc nL own) {n : Int} (N : Nat) (hN : 0 ≤ n ∧ n.toNat ≤ N) (hN2 : N ≤ 4096) (hw : Cond.arrayClass .boolean ∈ ztb) (hcells : cells + 1 ≤ R.cells) (hslots : slots + N ≤ R.slots) (hd : decode cc pc = .ok (.newarray .boolean, 2)) (kk : zZ D n0 p l e R s m args below meth c nL (cells + 1) (slots + N) Q (pc + 2) L (zv n0 (zsz M) :: st) (znI M 21 n)) : zZ D n0 p l e R s m args below meth c nL cells slots Q pc L (zi n :: st) M := by
  intro ls H locs hl hR hS
  have e : (Int32.ofInt n).toInt = n := Int32.toInt_ofInt_of_le (by omega) (by omega)
  have g1 : ¬ Int32.ofInt n < 0 := by rw [Int32.lt_iff_toInt_lt, e]; show ¬ n < 0; omega
  have g2 : (Int32.ofInt n).toNatClampNeg = n.toNat := by show (Int32.ofInt n).toInt.toNat = n.toNat; rw [e]
  refine va_newaK C.1 C.2.1 (atype := .boolean) (C.2.2.2.2.1.use _ hw) rfl hd rfl g1 g2 (by show n.toNat * 1 ≤ _; omega) hcells (by omega) hR.2.1 fun H1 cA e1 z1 o1 hAr hNm => ?_
  have hcA : cA = D.1 21 := Option.some.inj (hNm.symm.trans (C.2.2.2.2.2.1.2 1 _ rfl).2)
  subst hcA
  refine W.widen (Nat.le_refl _) (show slots + n.toNat ≤ slots + N by omega) ?_
  refine kk ls H1 locs hl (zR_push hR (fun h => absurd h (Nat.not_lt_of_le (Nat.le_of_ble_eq_true rfl))) ?_ z1 o1) (zS_push hS (by rw [z1, hR.2.1]) (by rw [hR.2.1]; exact o1))
  rw [zE_int (Nat.not_lt_of_le (Nat.le_of_ble_eq_true rfl)) (Nat.lt_of_lt_of_le (Nat.lt_succ_self _) (Nat.le_of_ble_eq_true rfl))]
  show H1[n0 + M.length]? = some (vp_cell _ _)
  rw [e1, vp_cell_i, List.length_replicate]
  congr 2
  funext q
  show _ = Value.int (Int32.ofInt ((List.replicate n.toNat (0 : Int)).getD q 0))
  rw [zgetD_rep]
  rfl
theorem z_newr (C : zC D n0 p s m meth c cc nL own) {n : Int} {kd idx : Nat} {E : String} (N : Nat) (hkd : 22 ≤ kd ∧ kd ≤ 26) (hE : zat kd = .object E) (hN : 0 ≤ n ∧ n.toNat ≤ N) (hN2 : N ≤ 4096) (hw : Cond.classLink own idx E ∈ ztb) (hw2 : Cond.arrayOver (.object E) ∈ ztb) (hcells : cells + 1 ≤ R.cells) (hslots : slots + N ≤ R.slots) (hd : decode cc pc = .ok (.anewarray idx, 3)) (kk : zZ D n0 p l e R s m args below meth c nL (cells + 1) (slots + N) Q (pc + 3) L (zv n0 (zsz M) :: st) (znR M kd n)) : zZ D n0 p l e R s m args below meth c nL cells slots Q pc L (zi n :: st) M := by
  intro ls H locs hl hR hS
  have e : (Int32.ofInt n).toInt = n := Int32.toInt_ofInt_of_le (by omega) (by omega)
  have g1 : ¬ Int32.ofInt n < 0 := by rw [Int32.lt_iff_toInt_lt, e]; show ¬ n < 0; omega
  have g2 : (Int32.ofInt n).toNatClampNeg = n.toNat := by show (Int32.ofInt n).toInt.toNat = n.toNat; rw [e]
  refine W.anew C.1 C.2.1 C.2.2.2.1 (C.2.2.2.2.1.use _ hw) (C.2.2.2.2.1.use _ hw2) rfl hd rfl g1 (by omega) hcells (by omega) fun cA kA comp f1 f2 f3 f4 => ?_
  have hty := (C.2.2.2.2.2.1.2 (kd - 20) _ (ztys_at D kd (by omega) (by omega))).2
  rw [hE] at hty
  have hcA : cA = D.1 kd := by
    obtain ⟨kA2, comp2, r1, r2, r3, r4⟩ := hty
    exact Option.some.inj (f1.symm.trans r4)
  subst hcA
  rw [g2, show H.size = n0 + M.length from hR.2.1]
  generalize hH1 : H.push ({ cls := D.1 kd, slots := Array.replicate n.toNat .null, vm := .none } : Cell) = H1
  have z1 : H1.size = n0 + M.length + 1 := by rw [← hH1, Array.size_push, hR.2.1]
  have e1 : H1[n0 + M.length]? = some (arrV (D.1 kd) n.toNat (fun _ => .null)) := by rw [← hH1, ← hR.2.1, Array.getElem?_push_size, ← arrV_new]
  have o1 : ∀ q : Nat, q < n0 + M.length → H1[q]? = H[q]? := fun q hq => by rw [← hH1, Array.getElem?_push, if_neg (by rw [hR.2.1]; omega)]
  refine W.widen (Nat.le_refl _) (show slots + n.toNat ≤ slots + N by omega) ?_
  refine kk ls H1 locs hl (zR_push hR (fun h => absurd h (show ¬ kd < 20 by omega)) ?_ z1 o1) (zS_push hS (by rw [z1, hR.2.1]) (by rw [hR.2.1]; exact o1))
  rw [zE_ref (show ¬ kd < 20 by omega) (show ¬ kd < 22 by omega)]
  show H1[n0 + M.length]? = some (vp_cell _ _)
  rw [e1, vp_cell_q, List.length_replicate]
  congr 2
  funext q
  show _ = va_rf (zo n0 ((List.replicate n.toNat (0 : Nat)).getD q 0))
  rw [zgetD_repr]
  rfl
theorem zborn : ∀ ci, ci < 9 → ∀ k, k < zni ci + znr ci → vp_V ((List.replicate (zni ci) (0 : Int)).map zi ++ (List.replicate (znr ci) (0 : Nat)).map (zv n0)) k = defaultValue (zty ci k) := by
  intro ci hci k hk
  have h1 : k < zni ci → (zty ci k = .int ∨ zty ci k = .boolean) := by
    revert k
    revert ci
    decide +kernel
  have h2 : ¬ k < zni ci → zrt (zty ci k) = true := by
    have : ∀ ci, ci < 9 → ∀ k, k < zni ci + znr ci → ¬ k < zni ci → zrt (zty ci k) = true := by decide +kernel
    exact this ci hci k hk
  unfold vp_V
  rw [List.getD_eq_getElem?_getD, List.map_replicate, List.map_replicate]
  by_cases hlt : k < zni ci
  · rw [List.getElem?_append_left (by rw [List.length_replicate]; exact hlt), List.getElem?_replicate, if_pos hlt]
    rcases h1 hlt with h | h <;> rw [h] <;> rfl
  · rw [List.getElem?_append_right (by rw [List.length_replicate]; omega), List.getElem?_replicate, if_pos (by rw [List.length_replicate]; omega)]
    have h3 := h2 hlt
    cases hz : zty ci k <;> rw [hz] at h3 <;> first | cases h3; done | rfl
theorem zclN (ci : Nat) (q : vw_C) (h : zcl[ci]? = some q) : q.2.2 = zni ci + znr ci := by
  match ci, h with
  | 0, h => cases h; rfl
  | 1, h => cases h; rfl
  | 2, h => cases h; rfl
  | 3, h => cases h; rfl
  | 4, h => cases h; rfl
  | 5, h => cases h; rfl
  | 6, h => cases h; rfl
  | 7, h => cases h; rfl
  | 8, h => cases h; rfl
  | k + 9, h => simp [zcl] at h
theorem z_new (C : zC D n0 p s m meth c cc nL own) {ci idx : Nat} {q : vw_C} (hq : zcl[ci]? = some q) (hw : Cond.classLink own idx q.1 ∈ ztb) (hw2 : Cond.instantiable q.1 q.2.2 ∈ ztb) (hw3 : Cond.initialized q.1 ∈ ztb) (hcells : cells + 1 ≤ R.cells) (hslots : slots + q.2.2 ≤ R.slots) (hd : decode cc pc = .ok (.new idx, 3)) (kk : zZ D n0 p l e R s m args below meth c nL (cells + 1) (slots + q.2.2) Q (pc + 3) L (zv n0 (zsz M) :: st) (znO M ci)) : zZ D n0 p l e R s m args below meth c nL cells slots Q pc L st M := by
  intro ls H locs hl hR hS
  have hK := C.2.2.2.2.2.1
  have hKn := hK.1 ci _ hq
  refine W.newcK C.1 C.2.1 C.2.2.2.1 (C.2.2.2.2.1.use _ hw) (C.2.2.2.2.1.use _ hw2) (C.2.2.2.2.1.use _ hw3) rfl hd hcells hslots hKn.2.1 hR.2.1 fun H1 kC hkC e1 z1 o1 => ?_
  refine kk ls H1 locs hl (zR_push hR (fun _ => ⟨List.length_replicate, List.length_replicate⟩) ?_ z1 o1) (zS_push hS (by rw [z1, hR.2.1]) (by rw [hR.2.1]; exact o1))
  rw [zE_obj (zcl20 hq)]
  refine ⟨q, hq, (u_born (zty ci) (C.2.2.2.2.1.use (args := args)) (zlays _ q hq) hKn hkC e1 (ztyok _ q hq)).to (fun k hk => ?_)⟩
  exact (zborn (n0 := n0) ci (zcl_lt hq) k (by rw [← zclN ci q hq]; exact hk)).symm
end ZROWJ
