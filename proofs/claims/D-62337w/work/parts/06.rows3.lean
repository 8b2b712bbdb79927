section ZROWI
variable {D : va_G} {n0 : Nat} {p : Program} {l : Launch} {e : Env} {R : Room} {s : State} {m : MethodId} {args : Array Value} {below : List Frame} {meth : Method} {c : Code} {cells slots : Nat} {Q : State → Prop} {cc : ByteArray} {nL : Nat} {own : String} {pc : Nat} {L : List (Option Value)} {st : List Value} {M M' : zHp}
theorem z_putVF (C : zC D n0 p s m meth c cc nL own) (hin2 : meth.name = "<init>") {idx ci k : Nat} {j : Nat} {ce cn : zCel} {v : Value} (F : zFf own idx ci k) (hj : M[j]? = some ce) (hc : ce.1 = ci) (hn : narrow (zty ci k) v = v) (hf : fits (zty ci k) v = true) (hc' : cn.1 = ce.1) (h1 : cn.2.1.length = ce.2.1.length) (h2 : cn.2.2.length = ce.2.2.length)
    (hset : zwf M → (ce.2.1.map zi ++ ce.2.2.map (zv n0)).set k v = cn.2.1.map zi ++ cn.2.2.map (zv n0)) (hkl : zwf M → k < (ce.2.1.map zi ++ ce.2.2.map (zv n0)).length) (hd : decode cc pc = .ok (.putfield idx, 3)) (kk : zZ D n0 p l e R s m args below meth c nL cells slots Q (pc + 3) L st (M.set j cn)) : zZ D n0 p l e R s m args below meth c nL cells slots Q pc L (v :: zv n0 (j + 1) :: st) M := by
  obtain ⟨hx, hb, hml, hown, hT, hK, hn0, hlk⟩ := C
  intro ls H locs hl hR hS
  obtain ⟨q, hq, hkN, hfin, hdecl, hlink⟩ := F
  subst hc
  have hw := zW_get (D := D) (n0 := n0) hj
  rw [zE_obj (zcl20 hq)] at hw
  have hap := va_apart (args := args) (own := own) hT.use (zlays _ q hq) (zty ce.1) (ztyok _ q hq) (znames _ q hq) hK hq
  obtain ⟨r, h1r, cell, q1, q2, q3, q4⟩ := hR.1 j _ hw
  have hr : r = q := Option.some.inj (h1r.symm.trans hq)
  subst hr
  obtain ⟨hSl, hfc, kC, hkC, hkind⟩ := hK.1 ce.1 _ hq
  obtain ⟨cf, kf, fi, f, hi, hsl⟩ := hSl k hkN
  have hlay := hT.use (args := args) _ (zlays _ r hq _ (u_in_lay hkN))
  unfold u_lay at hlay
  rw [if_pos hfin] at hlay
  have hst := (u_facts hfc hkC (u_lays (args := args) hT.use (zlays _ r hq) hkN) hi).1
  have hcf : m.cls = cf := by
    obtain ⟨_, _, c', _, _, _, -, -, hf', -, -, -, hown2, -⟩ := Cond.laysFinal_spec hlay
    have e1 : c' = cf := by have := hi.symm.trans hf'; simp at this; exact this.1.symm
    rw [hdecl] at hown2
    rw [← e1]; exact Option.some.inj (hown.symm.trans hown2)
  have h6 := u_fits hfc hkC hkind (Or.inr hlay) hi (ztyok _ r hq k hkN) hn hf
  refine W.putFinK hx hb hown (hT.use _ hlink) hi hst hcf hin2 (by rw [q2]; exact h6) q1 q3 (by rw [hsl]; exact k2_hasslot (q4 k hkN)) rfl rfl hd fun H1 e1 e2 e3 => ?_
  rw [hsl] at e1 ⊢
  have hP1 := hR.1.set zD hw (H1 := H1) (e := .inr (ce.1, (ce.2.1.map zi ++ ce.2.2.map (zv n0)).set k v)) ⟨_, hq, t_OB.to (V := updV (vp_V (ce.2.1.map zi ++ ce.2.2.map (zv n0))) k v) ⟨_, e1, q2, q3, t_set q4 hap hkN v⟩ (fun j _ => vp_updV_set (hkl hR.2.2) v j)⟩ e3
  refine kk ls H1 _ hl ⟨?_, ?_, zwf_set hR.2.2 hj hc' h1 h2⟩ (hS.put e2 e3 (Nat.le_add_right _ _))
  · rw [zW_set, zE_obj (by rw [hc']; exact zcl20 hq), hc', ← hset hR.2.2]
    exact hP1
  · rw [List.length_set, e2]
    exact hR.2.1
theorem zset_i {is : List Int} {rs : List Nat} {k : Nat} {x : Int} (hk : k < is.length) : (is.map zi ++ rs.map (zv n0)).set k (zi x) = (is.set k x).map zi ++ rs.map (zv n0) := by
  rw [List.set_append, if_pos (by rw [List.length_map]; exact hk), List.map_set]
theorem zset_r {is : List Int} {rs : List Nat} {k : Nat} {x : Nat} : (is.map zi ++ rs.map (zv n0)).set (is.length + k) (zv n0 x) = is.map zi ++ (rs.set k x).map (zv n0) := by
  rw [List.set_append, if_neg (by rw [List.length_map]; omega), List.length_map, Nat.add_sub_cancel_left, List.map_set]
theorem z_puti (C : zC D n0 p s m meth c cc nL own) {idx ci k r : Nat} {x : Int} (F : zFp own idx ci k) (hk : k < zni ci) (hty : zty ci k = .int) (h : pI M ci r k x = some M') (hd : decode cc pc = .ok (.putfield idx, 3)) (kk : zZ D n0 p l e R s m args below meth c nL cells slots Q (pc + 3) L st M') : zZ D n0 p l e R s m args below meth c nL cells slots Q pc L (zi x :: zv n0 r :: st) M := by
  obtain ⟨j, ce, rfl, hj, hc, rfl⟩ := pI_inv h
  have hci : ci < 20 := by
    obtain ⟨⟨q, hq, -⟩, -⟩ := F
    exact zcl20 hq
  have hlen : zwf M → k < ce.2.1.length := fun hw => by rw [(hw j ce hj (by rw [hc]; exact hci)).1, hc]; exact hk
  exact z_putV (cn := (ce.1, ce.2.1.set k x, ce.2.2)) C F hj hc (by rw [hty]; rfl) (by rw [hty]; rfl) rfl (by rw [List.length_set]) rfl (fun hw => zset_i (hlen hw)) (fun hw => by rw [List.length_append, List.length_map]; have := hlen hw; omega) hd kk
theorem zbl_inv {x : Int} (h : zbl x = true) : x = 0 ∨ x = 1 := by simpa [zbl] using h
theorem z_putz (C : zC D n0 p s m meth c cc nL own) {idx ci k r : Nat} {x : Int} (F : zFp own idx ci k) (hk : k < zni ci) (hty : zty ci k = .boolean) (h : pZ M ci r k x = some M') (hd : decode cc pc = .ok (.putfield idx, 3)) (kk : zZ D n0 p l e R s m args below meth c nL cells slots Q (pc + 3) L st M') : zZ D n0 p l e R s m args below meth c nL cells slots Q pc L (zi x :: zv n0 r :: st) M := by
  unfold pZ at h
  split at h
  · rename_i hb
    obtain ⟨j, ce, rfl, hj, hc, rfl⟩ := pI_inv h
    have hci : ci < 20 := by
      obtain ⟨⟨q, hq, -⟩, -⟩ := F
      exact zcl20 hq
    have hlen : zwf M → k < ce.2.1.length := fun hw => by rw [(hw j ce hj (by rw [hc]; exact hci)).1, hc]; exact hk
    exact z_putV (cn := (ce.1, ce.2.1.set k x, ce.2.2)) C F hj hc (by rw [hty]; rcases zbl_inv hb with rfl | rfl <;> decide +kernel) (by rw [hty]; rcases zbl_inv hb with rfl | rfl <;> decide +kernel) rfl (by rw [List.length_set]) rfl (fun hw => zset_i (hlen hw)) (fun hw => by rw [List.length_append, List.length_map]; have := hlen hw; omega) hd kk
  · cases h
/-- a type of references -/
def zrt (t : FieldType) : Bool := match t with
  | .object _ => true
  | .array _ => true
  | _ => false
theorem znar (t : FieldType) (h : zrt t = true) (r : Nat) : narrow t (zv n0 r) = zv n0 r ∧ fits t (zv n0 r) = true := by
  cases t <;> first | cases h; done | (cases r <;> exact ⟨rfl, rfl⟩)
theorem z_putr (C : zC D n0 p s m meth c cc nL own) {idx ci k kr r x : Nat} (F : zFp own idx ci kr) (hkr : kr = zni ci + k) (hk : k < znr ci) (hty : zrt (zty ci kr) = true) (h : pR M ci r k x = some M') (hd : decode cc pc = .ok (.putfield idx, 3)) (kk : zZ D n0 p l e R s m args below meth c nL cells slots Q (pc + 3) L st M') : zZ D n0 p l e R s m args below meth c nL cells slots Q pc L (zv n0 x :: zv n0 r :: st) M := by
  subst hkr
  obtain ⟨j, ce, rfl, hj, hc, rfl⟩ := pR_inv h
  have hci : ci < 20 := by
    obtain ⟨⟨q, hq, -⟩, -⟩ := F
    exact zcl20 hq
  have hlen : zwf M → ce.2.1.length = zni ci ∧ ce.2.2.length = znr ci := fun hw => by rw [← hc]; exact hw j ce hj (by rw [hc]; exact hci)
  exact z_putV (cn := (ce.1, ce.2.1, ce.2.2.set k x)) C F hj hc (znar _ hty _).1 (znar _ hty _).2 rfl rfl (by rw [List.length_set]) (fun hw => by rw [← (hlen hw).1]; exact zset_r) (fun hw => by rw [List.length_append, List.length_map, List.length_map, (hlen hw).1, (hlen hw).2]; omega) hd kk
theorem z_putfr (C : zC D n0 p s m meth c cc nL own) (hin2 : meth.name = "<init>") {idx ci k kr r x : Nat} (F : zFf own idx ci kr) (hkr : kr = zni ci + k) (hk : k < znr ci) (hty : zrt (zty ci kr) = true) (h : pR M ci r k x = some M') (hd : decode cc pc = .ok (.putfield idx, 3)) (kk : zZ D n0 p l e R s m args below meth c nL cells slots Q (pc + 3) L st M') : zZ D n0 p l e R s m args below meth c nL cells slots Q pc L (zv n0 x :: zv n0 r :: st) M := by
  subst hkr
  obtain ⟨j, ce, rfl, hj, hc, rfl⟩ := pR_inv h
  have hci : ci < 20 := by
    obtain ⟨q, hq, -⟩ := F
    exact zcl20 hq
  have hlen : zwf M → ce.2.1.length = zni ci ∧ ce.2.2.length = znr ci := fun hw => by rw [← hc]; exact hw j ce hj (by rw [hc]; exact hci)
  exact z_putVF (cn := (ce.1, ce.2.1, ce.2.2.set k x)) C hin2 F hj hc (znar _ hty _).1 (znar _ hty _).2 rfl rfl (by rw [List.length_set]) (fun hw => by rw [← (hlen hw).1]; exact zset_r) (fun hw => by rw [List.length_append, List.length_map, List.length_map, (hlen hw).1, (hlen hw).2]; omega) hd kk
-- arrays
theorem zix {i : Int} (h0 : 0 ≤ i) (h1 : i < 4096) : ¬ Int32.ofInt i < 0 ∧ (Int32.ofInt i).toNatClampNeg = i.toNat := by
  have e : (Int32.ofInt i).toInt = i := Int32.toInt_ofInt_of_le (by omega) (by omega)
  constructor
  · rw [Int32.lt_iff_toInt_lt, e]
    show ¬ i < 0
    omega
  · show (Int32.ofInt i).toInt.toNat = i.toNat
    rw [e]
theorem zvin {i : Int} {n : Nat} (h0 : 0 ≤ i) (h1 : i < 4096) (hn : i.toNat < n) : vp_in (Int32.ofInt i) n := by
  obtain ⟨g1, g2⟩ := zix h0 h1
  intro q
  rcases q with q | q
  · exact g1 q
  · rw [g2] at q; omega
theorem ldI_inv {kd r : Nat} {i x : Int} (h : ldI M kd r i = some x) : ∃ (j : Nat) (ce : zCel), r = j + 1 ∧ M[j]? = some ce ∧ ce.1 = kd ∧ 0 ≤ i ∧ i < 4096 ∧ ce.2.1[i.toNat]? = some x := by
  unfold ldI at h
  split at h
  · rename_i ce hg
    obtain ⟨j, e1, e2⟩ := zg_inv hg
    split at h
    · rename_i hh
      exact ⟨j, ce, e1, e2, hh.1, hh.2.1, hh.2.2, h⟩
    · cases h
  · cases h
theorem ldR_inv {kd r : Nat} {i : Int} {x : Nat} (h : ldR M kd r i = some x) : ∃ (j : Nat) (ce : zCel), r = j + 1 ∧ M[j]? = some ce ∧ ce.1 = kd ∧ 0 ≤ i ∧ i < 4096 ∧ ce.2.2[i.toNat]? = some x := by
  unfold ldR at h
  split at h
  · rename_i ce hg
    obtain ⟨j, e1, e2⟩ := zg_inv hg
    split at h
    · rename_i hh
      exact ⟨j, ce, e1, e2, hh.1, hh.2.1, hh.2.2, h⟩
    · cases h
  · cases h
theorem stI_inv {kd r : Nat} {i x : Int} (h : stI M kd r i x = some M') : ∃ (j : Nat) (ce : zCel), r = j + 1 ∧ M[j]? = some ce ∧ ce.1 = kd ∧ 0 ≤ i ∧ i < 4096 ∧ i.toNat < ce.2.1.length ∧ M' = M.set j (ce.1, ce.2.1.set i.toNat x, ce.2.2) := by
  unfold stI at h
  split at h
  · rename_i ce hg
    obtain ⟨j, e1, e2⟩ := zg_inv hg
    split at h
    · rename_i hh
      refine ⟨j, ce, e1, e2, hh.1, hh.2.1, hh.2.2.1, hh.2.2.2, ?_⟩
      rw [← Option.some.inj h, e1]
      rfl
    · cases h
  · cases h
theorem stR_inv {kd r : Nat} {i : Int} {x : Nat} (h : stR M kd r i x = some M') : ∃ (j : Nat) (ce : zCel), r = j + 1 ∧ M[j]? = some ce ∧ ce.1 = kd ∧ 0 ≤ i ∧ i < 4096 ∧ i.toNat < ce.2.2.length ∧ (x = 0 ∨ ztk kd (zk M x) = true) ∧ M' = M.set j (ce.1, ce.2.1, ce.2.2.set i.toNat x) := by
  unfold stR at h
  split at h
  · rename_i ce hg
    obtain ⟨j, e1, e2⟩ := zg_inv hg
    split at h
    · rename_i hh
      refine ⟨j, ce, e1, e2, hh.1, hh.2.1, hh.2.2.1, hh.2.2.2.1, hh.2.2.2.2, ?_⟩
      rw [← Option.some.inj h, e1]
      rfl
    · cases h
  · cases h
theorem zgetD {is : List Int} {k : Nat} {x : Int} (h : is[k]? = some x) : is.getD k 0 = x := by
  rw [List.getD_eq_getElem?_getD, h]; rfl
theorem zgetDr {is : List Nat} {k : Nat} {x : Nat} (h : is[k]? = some x) : is.getD k 0 = x := by
  rw [List.getD_eq_getElem?_getD, h]; rfl
theorem z_iald (C : zC D n0 p s m meth c cc nL own) {r : Nat} {i x : Int} (h : ldI M 20 r i = some x) (hd : decode cc pc = .ok (.iaload, 1)) (kk : zZ D n0 p l e R s m args below meth c nL cells slots Q (pc + 1) L (zi x :: st) M) : zZ D n0 p l e R s m args below meth c nL cells slots Q pc L (zi i :: zv n0 r :: st) M := by
  obtain ⟨j, ce, rfl, hj, hc, h0, h1, hv⟩ := ldI_inv h
  intro ls H locs hl hR hS
  have hw := zW_get (D := D) (n0 := n0) hj
  rw [zE_int (by omega) (by omega), hc] at hw
  refine va_iald C.1 C.2.1 C.2.2.2.2.2.1 hR.1 j 0 hw rfl (zvin h0 h1 (List.getElem?_eq_some_iff.mp hv).1) hd ?_
  rw [(zix h0 h1).2, zgetD hv]
  exact kk ls H locs hl hR hS
theorem z_bald (C : zC D n0 p s m meth c cc nL own) {r : Nat} {i x : Int} (h : ldI M 21 r i = some x) (hd : decode cc pc = .ok (.baload, 1)) (kk : zZ D n0 p l e R s m args below meth c nL cells slots Q (pc + 1) L (zi x :: st) M) : zZ D n0 p l e R s m args below meth c nL cells slots Q pc L (zi i :: zv n0 r :: st) M := by
  obtain ⟨j, ce, rfl, hj, hc, h0, h1, hv⟩ := ldI_inv h
  intro ls H locs hl hR hS
  have hw := zW_get (D := D) (n0 := n0) hj
  rw [zE_int (by omega) (by omega), hc] at hw
  refine va_zald C.1 C.2.1 C.2.2.2.2.2.1 hR.1 j 1 hw rfl (zvin h0 h1 (List.getElem?_eq_some_iff.mp hv).1) hd ?_
  rw [(zix h0 h1).2, zgetD hv]
  exact kk ls H locs hl hR hS
theorem z_aald (C : zC D n0 p s m meth c cc nL own) {kd r : Nat} {i : Int} {x : Nat} (hk : 22 ≤ kd ∧ kd ≤ 26) (h : ldR M kd r i = some x) (hd : decode cc pc = .ok (.aaload, 1)) (kk : zZ D n0 p l e R s m args below meth c nL cells slots Q (pc + 1) L (zv n0 x :: st) M) : zZ D n0 p l e R s m args below meth c nL cells slots Q pc L (zi i :: zv n0 r :: st) M := by
  obtain ⟨j, ce, rfl, hj, hc, h0, h1, hv⟩ := ldR_inv h
  intro ls H locs hl hR hS
  have hw := zW_get (D := D) (n0 := n0) hj
  rw [zE_ref (by omega) (by omega), hc] at hw
  have hob : ∃ C', zat kd = .object C' := by
    rcases (show kd = 22 ∨ kd = 23 ∨ kd = 24 ∨ kd = 25 ∨ kd = 26 by omega) with rfl | rfl | rfl | rfl | rfl <;> exact ⟨_, rfl⟩
  obtain ⟨C', hC'⟩ := hob
  refine va_aldq (C := C') C.1 C.2.1 C.2.2.2.2.2.1 hR.1 j (kd - 20) hw (by rw [ztys_at D kd (by omega) (by omega), hC']) (zvin h0 h1 (List.getElem?_eq_some_iff.mp hv).1) hd ?_
  rw [(zix h0 h1).2, zgetDr hv]
  exact kk ls H locs hl hR hS
end ZROWI
