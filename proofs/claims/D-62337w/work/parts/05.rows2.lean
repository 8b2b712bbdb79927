section ZROWH
variable {D : va_G} {n0 : Nat} {p : Program} {l : Launch} {e : Env} {R : Room} {s : State} {m : MethodId} {args : Array Value} {below : List Frame} {meth : Method} {c : Code} {cells slots : Nat} {Q : State → Prop} {cc : ByteArray} {nL : Nat} {own : String} {pc : Nat} {L : List (Option Value)} {st : List Value} {M M' : zHp}
/-- a field's link, its class's number and its own in the class's table -/
def zFl (own : String) (idx ci k : Nat) : Prop := ∃ q : vw_C, zcl[ci]? = some q ∧ k < q.2.2 ∧ (Cond.fieldLink own idx (q.2.1 k).1 (q.2.1 k).2.1 (q.2.1 k).2.2.1 ∈ ztb ∨ ∃ host, Cond.fieldLinkNest own idx (q.2.1 k).1 (q.2.1 k).2.1 (q.2.1 k).2.2.1 host ∈ ztb)
/-- the same for a store: not final -/
def zFp (own : String) (idx ci k : Nat) : Prop := zFl own idx ci k ∧ ∀ q : vw_C, zcl[ci]? = some q → (q.2.1 k).2.2.2 = false
/-- final, in its own class -/
def zFf (own : String) (idx ci k : Nat) : Prop := ∃ q : vw_C, zcl[ci]? = some q ∧ k < q.2.2 ∧ (q.2.1 k).2.2.2 = true ∧ (q.2.1 k).1 = own ∧ Cond.fieldLink own idx (q.2.1 k).1 (q.2.1 k).2.1 (q.2.1 k).2.2.1 ∈ ztb
theorem zg_inv {r : Nat} {ce : zCel} (h : zg M r = some ce) : ∃ j, r = j + 1 ∧ M[j]? = some ce := by
  cases r with
  | zero => cases h
  | succ j => exact ⟨j, rfl, h⟩
theorem gI_inv {ci r k : Nat} {x : Int} (h : gI M ci r k = some x) : ∃ (j : Nat) (ce : zCel), r = j + 1 ∧ M[j]? = some ce ∧ ce.1 = ci ∧ ce.2.1[k]? = some x := by
  unfold gI at h
  split at h
  · rename_i ce hg
    obtain ⟨j, e1, e2⟩ := zg_inv hg
    split at h
    · exact ⟨j, ce, e1, e2, by assumption, h⟩
    · cases h
  · cases h
theorem gR_inv {ci r k : Nat} {x : Nat} (h : gR M ci r k = some x) : ∃ (j : Nat) (ce : zCel), r = j + 1 ∧ M[j]? = some ce ∧ ce.1 = ci ∧ ce.2.2[k]? = some x := by
  unfold gR at h
  split at h
  · rename_i ce hg
    obtain ⟨j, e1, e2⟩ := zg_inv hg
    split at h
    · exact ⟨j, ce, e1, e2, by assumption, h⟩
    · cases h
  · cases h
theorem pI_inv {ci r k : Nat} {x : Int} (h : pI M ci r k x = some M') : ∃ (j : Nat) (ce : zCel), r = j + 1 ∧ M[j]? = some ce ∧ ce.1 = ci ∧ M' = M.set j (ce.1, ce.2.1.set k x, ce.2.2) := by
  unfold pI at h
  split at h
  · rename_i ce hg
    obtain ⟨j, e1, e2⟩ := zg_inv hg
    split at h
    · refine ⟨j, ce, e1, e2, by assumption, ?_⟩
      rw [← Option.some.inj h, e1]
      rfl
    · cases h
  · cases h
theorem pR_inv {ci r k : Nat} {x : Nat} (h : pR M ci r k x = some M') : ∃ (j : Nat) (ce : zCel), r = j + 1 ∧ M[j]? = some ce ∧ ce.1 = ci ∧ M' = M.set j (ce.1, ce.2.1, ce.2.2.set k x) := by
  unfold pR at h
  split at h
  · rename_i ce hg
    obtain ⟨j, e1, e2⟩ := zg_inv hg
    split at h
    · refine ⟨j, ce, e1, e2, by assumption, ?_⟩
      rw [← Option.some.inj h, e1]
      rfl
    · cases h
  · cases h
theorem zE_obj {ce : zCel} (h : ce.1 < 20) : zE D n0 ce = .inr (ce.1, ce.2.1.map zi ++ ce.2.2.map (zv n0)) := by
  unfold zE
  rw [if_pos h]
theorem zE_int {ce : zCel} (h1 : ¬ ce.1 < 20) (h2 : ce.1 < 22) : zE D n0 ce = .inl (D.1 ce.1, ce.2.1.length, .inl (fun j => Int32.ofInt (ce.2.1.getD j 0))) := by
  unfold zE
  rw [if_neg h1, if_pos h2]
theorem zE_ref {ce : zCel} (h1 : ¬ ce.1 < 20) (h2 : ¬ ce.1 < 22) : zE D n0 ce = .inl (D.1 ce.1, ce.2.2.length, .inr (.inr (.inr (.inr (fun j => zo n0 (ce.2.2.getD j 0)))))) := by
  unfold zE
  rw [if_neg h1, if_neg h2]
theorem zwf_set {j : Nat} {ce cn : zCel} (h : zwf M) (he : M[j]? = some ce) (h0 : cn.1 = ce.1) (h1 : cn.2.1.length = ce.2.1.length) (h2 : cn.2.2.length = ce.2.2.length) : zwf (M.set j cn) := by
  intro i d hd hlt
  by_cases hij : j = i
  · subst hij
    rw [List.getElem?_set] at hd
    simp only [if_true] at hd
    split at hd
    · cases hd
      rw [h1, h2, h0]
      exact h j ce he (by rw [← h0]; exact hlt)
    · cases hd
  · rw [List.getElem?_set_ne hij] at hd
    exact h i d hd hlt
theorem zwf_push {cn : zCel} (h : zwf M) (hn : cn.1 < 20 → cn.2.1.length = zni cn.1 ∧ cn.2.2.length = znr cn.1) : zwf (M ++ [cn]) := by
  intro i d hd hlt
  by_cases hl : i < M.length
  · rw [List.getElem?_append_left hl] at hd
    exact h i d hd hlt
  · rw [List.getElem?_append_right (by omega)] at hd
    have hz : i - M.length < 1 := (List.getElem?_eq_some_iff.mp hd).1
    rw [show i - M.length = 0 by omega] at hd
    cases hd
    exact hn hlt
theorem zcl20 {ci : Nat} {q : vw_C} (h : zcl[ci]? = some q) : ci < 20 := Nat.lt_of_lt_of_le (zcl_lt h) (by decide)
/-- reading a field, of a value v at the place k -/
theorem z_getV (C : zC D n0 p s m meth c cc nL own) {idx ci k : Nat} {j : Nat} {ce : zCel} {v : Value} (F : zFl own idx ci k) (hj : M[j]? = some ce) (hc : ce.1 = ci) (hv : (ce.2.1.map zi ++ ce.2.2.map (zv n0))[k]? = some v) (hd : decode cc pc = .ok (.getfield idx, 3)) (kk : zZ D n0 p l e R s m args below meth c nL cells slots Q (pc + 3) L (v :: st) M) : zZ D n0 p l e R s m args below meth c nL cells slots Q pc L (zv n0 (j + 1) :: st) M := by
  obtain ⟨hx, hb, hml, hown, hT, hK, hn0, hlk⟩ := C
  intro ls H locs hl hR hS
  obtain ⟨q, hq, hkN, hlink⟩ := F
  subst hc
  have hw := zW_get (D := D) (n0 := n0) hj
  rw [zE_obj (zcl20 hq)] at hw
  rcases hlink with hlink | ⟨host, hlink⟩
  · exact va_get (D := D) (ci := ce.1) (C := q.1) (T := q.2.1) (N := q.2.2) hx hb hT.use (zlays _ q hq) hown hK hR.1 j hw hq k hkN (hT.use _ hlink) (fun _ h => h) hv hd (kk ls H locs hl hR hS)
  · exact va_getN (D := D) (ci := ce.1) (C := q.1) (T := q.2.1) (N := q.2.2) hx hb hT.use (zlays _ q hq) hown hK hR.1 j hw hq k hkN (hT.use _ hlink) (fun _ h => h) hv hd (kk ls H locs hl hR hS)
theorem z_geti (C : zC D n0 p s m meth c cc nL own) {idx ci k r : Nat} {x : Int} (F : zFl own idx ci k) (h : gI M ci r k = some x) (hd : decode cc pc = .ok (.getfield idx, 3)) (kk : zZ D n0 p l e R s m args below meth c nL cells slots Q (pc + 3) L (zi x :: st) M) : zZ D n0 p l e R s m args below meth c nL cells slots Q pc L (zv n0 r :: st) M := by
  obtain ⟨j, ce, rfl, hj, hc, hv⟩ := gI_inv h
  refine z_getV C F hj hc ?_ hd kk
  have hlt : k < ce.2.1.length := (List.getElem?_eq_some_iff.mp hv).1
  rw [List.getElem?_append_left (by rw [List.length_map]; exact hlt), List.getElem?_map, hv]
  rfl
theorem z_getr (C : zC D n0 p s m meth c cc nL own) {idx ci k kr r x : Nat} (F : zFl own idx ci kr) (hkr : kr = zni ci + k) (h : gR M ci r k = some x) (hd : decode cc pc = .ok (.getfield idx, 3)) (kk : zZ D n0 p l e R s m args below meth c nL cells slots Q (pc + 3) L (zv n0 x :: st) M) : zZ D n0 p l e R s m args below meth c nL cells slots Q pc L (zv n0 r :: st) M := by
  subst hkr
  obtain ⟨j, ce, rfl, hj, hc, hv⟩ := gR_inv h
  intro ls H locs hl hR hS
  have hci : ci < 20 := by
    obtain ⟨q, hq, -⟩ := F
    exact zcl20 hq
  have hlen : ce.2.1.length = zni ci := by
    rw [← hc]
    exact (hR.2.2 j ce hj (by rw [hc]; exact hci)).1
  refine z_getV C F hj hc ?_ hd kk ls H locs hl hR hS
  rw [List.getElem?_append_right (by rw [List.length_map]; omega), List.length_map, hlen, Nat.add_sub_cancel_left, List.getElem?_map, hv]
  rfl
/-- writing a field: the world behind it, for a value that the field takes -/
theorem z_putV (C : zC D n0 p s m meth c cc nL own) {idx ci k : Nat} {j : Nat} {ce cn : zCel} {v : Value} (F : zFp own idx ci k) (hj : M[j]? = some ce) (hc : ce.1 = ci) (hn : narrow (zty ci k) v = v) (hf : fits (zty ci k) v = true) (hc' : cn.1 = ce.1) (h1 : cn.2.1.length = ce.2.1.length) (h2 : cn.2.2.length = ce.2.2.length)
    (hset : zwf M → (ce.2.1.map zi ++ ce.2.2.map (zv n0)).set k v = cn.2.1.map zi ++ cn.2.2.map (zv n0)) (hkl : zwf M → k < (ce.2.1.map zi ++ ce.2.2.map (zv n0)).length) (hd : decode cc pc = .ok (.putfield idx, 3)) (kk : zZ D n0 p l e R s m args below meth c nL cells slots Q (pc + 3) L st (M.set j cn)) : zZ D n0 p l e R s m args below meth c nL cells slots Q pc L (v :: zv n0 (j + 1) :: st) M := by
  obtain ⟨hx, hb, hml, hown, hT, hK, hn0, hlk⟩ := C
  intro ls H locs hl hR hS
  obtain ⟨⟨q, hq, hkN, hlink⟩, hfin⟩ := F
  subst hc
  have hw := zW_get (D := D) (n0 := n0) hj
  rw [zE_obj (zcl20 hq)] at hw
  have hgo : ∀ (H1 : Heap) (locs1 : List Loc), va_P D zcl ((zW D n0 M).set j (n0 + j, .inr (ce.1, (ce.2.1.map zi ++ ce.2.2.map (zv n0)).set k v))) H1 → va_D (fun q => n0 ≤ q) ((zW D n0 M).set j (n0 + j, .inr (ce.1, (ce.2.1.map zi ++ ce.2.2.map (zv n0)).set k v))) → va_S (fun q => n0 ≤ q) s.heap H1 locs1 → H1.size = H.size → W p l e R s m args below meth c H1 locs1 cells slots Q (F0 m (pc + 3) ls st) := by
    intro H1 locs1 hP1 _ hS1 hz
    refine kk ls H1 locs1 hl ⟨?_, ?_, zwf_set hR.2.2 hj hc' h1 h2⟩ hS1
    · rw [zW_set, zE_obj (by rw [hc']; exact zcl20 hq), hc', ← hset hR.2.2]
      exact hP1
    · rw [List.length_set, hz]
      exact hR.2.1
  have hap := va_apart (args := args) (own := own) hT.use (zlays _ q hq) (zty ce.1) (ztyok _ q hq) (znames _ q hq) hK hq
  obtain ⟨r, h1r, cell, q1, q2, q3, q4⟩ := hR.1 j _ hw
  have hr : r = q := Option.some.inj (h1r.symm.trans hq)
  subst hr
  obtain ⟨hSl, hfc, kC, hkC, hkind⟩ := hK.1 ce.1 _ hq
  obtain ⟨cf, kf, fi, f, hi, hsl⟩ := hSl k hkN
  have hlay := hT.use (args := args) _ (zlays _ r hq _ (u_in_lay hkN))
  unfold u_lay at hlay
  rw [if_neg (by rw [hfin r hq]; decide)] at hlay
  have hst := (u_facts hfc hkC (u_lays (args := args) hT.use (zlays _ r hq) hkN) hi).1
  have h6 := u_store hfc hkC hkind hlay hi (ztyok _ r hq k hkN) hn hf
  have hfw : ∀ (H1 : Heap), H1[n0 + j]? = some (cell.setSlot f.slot v) → H1.size = H.size → (∀ q, q ≠ n0 + j → H1[q]? = H[q]?) → W p l e R s m args below meth c H1 (locs ++ [⟨n0 + j, f.slot⟩]) cells slots Q (F0 m (pc + 3) ls st) := by
    intro H1 e1 e2 e3
    rw [hsl] at e1 ⊢
    exact hgo H1 _ (hR.1.set zD hw ⟨_, hq, t_OB.to (V := updV (vp_V (ce.2.1.map zi ++ ce.2.2.map (zv n0))) k v) ⟨_, e1, q2, q3, t_set q4 hap hkN v⟩ (fun j _ => vp_updV_set (hkl hR.2.2) v j)⟩ e3) (zD.set hw) (hS.put e2 e3 (Nat.le_add_right _ _)) e2
  rcases hlink with hlink | ⟨host, hlink⟩
  · exact W.putK hx hb (f := f) ⟨hown, hT.use _ hlink, ⟨_, _, _, hi⟩, hst⟩ (by rw [q2]; exact h6) q1 q3 (by rw [hsl]; exact k2_hasslot (q4 k hkN)) rfl rfl hd hfw
  · exact va_WputK hx hb (f := f) hown (hT.use _ hlink) hi hst (by rw [q2]; exact h6) q1 q3 (by rw [hsl]; exact k2_hasslot (q4 k hkN)) rfl rfl hd hfw
end ZROWH
