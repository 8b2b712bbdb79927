/-! The abstract heap by shapes and by what its places hold -/
def sh (M : zHp) (r : Nat) : Nat × Nat × Nat := match zg M r with
  | some c => (c.1, c.2.1.length, c.2.2.length)
  | none => (99, 0, 0)
def iF (M : zHp) (r k : Nat) : Int := match zg M r with
  | some c => c.2.1.getD k 0
  | none => 0
def rF (M : zHp) (r k : Nat) : Nat := match zg M r with
  | some c => c.2.2.getD k 0
  | none => 0
def wI (M : zHp) (r k : Nat) (x : Int) : zHp := match zg M r with
  | some c => zput M r (c.1, c.2.1.set k x, c.2.2)
  | none => M
def wR (M : zHp) (r k : Nat) (x : Nat) : zHp := match zg M r with
  | some c => zput M r (c.1, c.2.1, c.2.2.set k x)
  | none => M
theorem zg_lt {M : zHp} {r : Nat} {c : zCel} (h : zg M r = some c) : 1 ≤ r ∧ r ≤ M.length := by
  cases r with
  | zero => cases h
  | succ j =>
    have : j < M.length := (List.getElem?_eq_some_iff.mp h).1
    omega
theorem zg_zput {M : zHp} {r r' : Nat} {c c0 : zCel} (h : zg M r = some c0) : zg (zput M r c) r' = if r' = r then some c else zg M r' := by
  cases r with
  | zero => cases h
  | succ j =>
    have hj : j < M.length := (List.getElem?_eq_some_iff.mp h).1
    cases r' with
    | zero => simp [zg]
    | succ j' =>
      show (M.set j c)[j']? = _
      rw [List.getElem?_set]
      by_cases e : j = j'
      · subst e; simp [hj]
      · rw [if_neg e, if_neg (by omega)]; rfl
theorem sh_wI (M : zHp) (r k : Nat) (x : Int) (r' : Nat) : sh (wI M r k x) r' = sh M r' := by
  unfold wI
  split
  · rename_i c h
    unfold sh
    rw [zg_zput h]
    by_cases e : r' = r
    · subst e; simp [h]
    · simp [e]
  · rfl
theorem sh_wR (M : zHp) (r k : Nat) (x : Nat) (r' : Nat) : sh (wR M r k x) r' = sh M r' := by
  unfold wR
  split
  · rename_i c h
    unfold sh
    rw [zg_zput h]
    by_cases e : r' = r
    · subst e; simp [h]
    · simp [e]
  · rfl
theorem length_wI (M : zHp) (r k : Nat) (x : Int) : (wI M r k x).length = M.length := by
  unfold wI
  split
  · unfold zput; rw [List.length_set]
  · rfl
theorem length_wR (M : zHp) (r k : Nat) (x : Nat) : (wR M r k x).length = M.length := by
  unfold wR
  split
  · unfold zput; rw [List.length_set]
  · rfl
theorem iF_wI (M : zHp) (r k : Nat) (x : Int) (r' k' : Nat) : iF (wI M r k x) r' k' = if r' = r ∧ k' = k ∧ k < (sh M r).2.1 then x else iF M r' k' := by
  unfold wI sh
  split
  · rename_i c h
    unfold iF
    rw [zg_zput h]
    by_cases e : r' = r
    · subst e
      simp only [if_true, h, true_and]
      rw [List.getD_eq_getElem?_getD, List.getD_eq_getElem?_getD, List.getElem?_set]
      by_cases e2 : k = k'
      · subst e2
        by_cases e3 : k < c.2.1.length
        · simp [e3]
        · simp [e3]
      · rw [if_neg e2, if_neg (fun q => e2 q.1.symm)]
    · rw [if_neg e, if_neg (fun q => e q.1)]
  · rename_i h
    simp
theorem rF_wI (M : zHp) (r k : Nat) (x : Int) (r' k' : Nat) : rF (wI M r k x) r' k' = rF M r' k' := by
  unfold wI
  split
  · rename_i c h
    unfold rF
    rw [zg_zput h]
    by_cases e : r' = r
    · subst e; simp [h]
    · simp [e]
  · rfl
theorem iF_wR (M : zHp) (r k : Nat) (x : Nat) (r' k' : Nat) : iF (wR M r k x) r' k' = iF M r' k' := by
  unfold wR
  split
  · rename_i c h
    unfold iF
    rw [zg_zput h]
    by_cases e : r' = r
    · subst e; simp [h]
    · simp [e]
  · rfl
theorem rF_wR (M : zHp) (r k : Nat) (x : Nat) (r' k' : Nat) : rF (wR M r k x) r' k' = if r' = r ∧ k' = k ∧ k < (sh M r).2.2 then x else rF M r' k' := by
  unfold wR sh
  split
  · rename_i c h
    unfold rF
    rw [zg_zput h]
    by_cases e : r' = r
    · subst e
      simp only [if_true, h, true_and]
      rw [List.getD_eq_getElem?_getD, List.getD_eq_getElem?_getD, List.getElem?_set]
      by_cases e2 : k = k'
      · subst e2
        by_cases e3 : k < c.2.2.length
        · simp [e3]
        · simp [e3]
      · rw [if_neg e2, if_neg (fun q => e2 q.1.symm)]
    · rw [if_neg e, if_neg (fun q => e q.1)]
  · rename_i h
    simp
-- the programs' own reads and writes
theorem zk_eq (M : zHp) (r : Nat) : zk M r = (sh M r).1 := by
  cases h : zg M r <;> simp [zk, sh, h]
theorem gI_eq (M : zHp) (ci r k : Nat) : gI M ci r k = if (sh M r).1 = ci ∧ k < (sh M r).2.1 then some (iF M r k) else none := by
  cases h : zg M r with
  | none => simp [gI, sh, h]
  | some c =>
    simp only [gI, sh, iF, h]
    by_cases e : c.1 = ci
    · by_cases e2 : k < c.2.1.length
      · simp [e, e2]
      · simp [e, e2]
    · simp [e]
theorem gR_eq (M : zHp) (ci r k : Nat) : gR M ci r k = if (sh M r).1 = ci ∧ k < (sh M r).2.2 then some (rF M r k) else none := by
  cases h : zg M r with
  | none => simp [gR, sh, h]
  | some c =>
    simp only [gR, sh, rF, h]
    by_cases e : c.1 = ci
    · by_cases e2 : k < c.2.2.length
      · simp [e, e2]
      · simp [e, e2]
    · simp [e]
theorem pI_eq (M : zHp) (ci r k : Nat) (x : Int) (hci : ci ≠ 99) : pI M ci r k x = if (sh M r).1 = ci then some (wI M r k x) else none := by
  cases h : zg M r with
  | none => simp [pI, sh, h, hci.symm]
  | some c => simp [pI, sh, wI, h]
theorem pZ_eq (M : zHp) (ci r k : Nat) (x : Int) (hci : ci ≠ 99) : pZ M ci r k x = if (x = 0 ∨ x = 1) ∧ (sh M r).1 = ci then some (wI M r k x) else none := by
  unfold pZ zbl
  rw [pI_eq _ _ _ _ _ hci]
  by_cases h : x = 0 ∨ x = 1
  · simp [h]
  · simp [h]
theorem pR_eq (M : zHp) (ci r k : Nat) (x : Nat) (hci : ci ≠ 99) : pR M ci r k x = if (sh M r).1 = ci then some (wR M r k x) else none := by
  cases h : zg M r with
  | none => simp [pR, sh, h, hci.symm]
  | some c => simp [pR, sh, wR, h]
theorem ldI_eq (M : zHp) (kd r : Nat) (i : Int) : ldI M kd r i = if (sh M r).1 = kd ∧ 0 ≤ i ∧ i < 4096 ∧ i.toNat < (sh M r).2.1 then some (iF M r i.toNat) else none := by
  cases h : zg M r with
  | none => simp [ldI, sh, h]
  | some c =>
    simp only [ldI, sh, iF, h]
    by_cases e : c.1 = kd ∧ 0 ≤ i ∧ i < 4096
    · by_cases e2 : i.toNat < c.2.1.length
      · simp [e, e2]
      · simp [e, e2]
    · rw [if_neg e, if_neg (fun q => e ⟨q.1, q.2.1, q.2.2.1⟩)]
theorem ldR_eq (M : zHp) (kd r : Nat) (i : Int) : ldR M kd r i = if (sh M r).1 = kd ∧ 0 ≤ i ∧ i < 4096 ∧ i.toNat < (sh M r).2.2 then some (rF M r i.toNat) else none := by
  cases h : zg M r with
  | none => simp [ldR, sh, h]
  | some c =>
    simp only [ldR, sh, rF, h]
    by_cases e : c.1 = kd ∧ 0 ≤ i ∧ i < 4096
    · by_cases e2 : i.toNat < c.2.2.length
      · simp [e, e2]
      · simp [e, e2]
    · rw [if_neg e, if_neg (fun q => e ⟨q.1, q.2.1, q.2.2.1⟩)]
theorem stI_eq (M : zHp) (kd r : Nat) (i x : Int) : stI M kd r i x = if (sh M r).1 = kd ∧ 0 ≤ i ∧ i < 4096 ∧ i.toNat < (sh M r).2.1 then some (wI M r i.toNat x) else none := by
  cases h : zg M r with
  | none => simp [stI, sh, h]
  | some c => simp [stI, sh, wI, h]
theorem stZ_eq (M : zHp) (kd r : Nat) (i x : Int) : stZ M kd r i x = if (x = 0 ∨ x = 1) ∧ (sh M r).1 = kd ∧ 0 ≤ i ∧ i < 4096 ∧ i.toNat < (sh M r).2.1 then some (wI M r i.toNat x) else none := by
  unfold stZ zbl
  rw [stI_eq]
  by_cases h : x = 0 ∨ x = 1
  · simp [h]
  · simp [h]
theorem stR_eq (M : zHp) (kd r : Nat) (i : Int) (x : Nat) : stR M kd r i x = if (sh M r).1 = kd ∧ 0 ≤ i ∧ i < 4096 ∧ i.toNat < (sh M r).2.2 ∧ (x = 0 ∨ ztk kd (sh M x).1 = true) then some (wR M r i.toNat x) else none := by
  cases h : zg M r with
  | none => simp [stR, sh, h]
  | some c =>
    have e : (sh M r).1 = c.1 ∧ (sh M r).2.2 = c.2.2.length := by simp [sh, h]
    rw [e.1, e.2, ← zk_eq]
    simp [stR, wR, h]
-- ints of 32 bits
def rg (x : Int) : Prop := -2147483648 ≤ x ∧ x ≤ 2147483647
theorem rg_to (x : Int32) : rg x.toInt := ⟨Int32.le_toInt x, Int32.toInt_le x⟩
theorem of_rg {x : Int} (h : rg x) : (Int32.ofInt x).toInt = x := Int32.toInt_ofInt_of_le (by have := h.1; omega) (by have := h.2; omega)
theorem rg_add (x y : Int) : rg (zadd x y) := rg_to _
theorem rg_sub (x y : Int) : rg (zsub x y) := rg_to _
theorem rg_mul (x y : Int) : rg (zmul x y) := rg_to _
theorem rg_div (x y : Int) : rg (zdiv x y) := rg_to _
theorem rg_rem (x y : Int) : rg (zrem x y) := rg_to _
theorem rg_shl (x y : Int) : rg (zshl x y) := rg_to _
theorem rg_shr (x y : Int) : rg (zshr x y) := rg_to _
theorem rg_and (x y : Int) : rg (zand x y) := rg_to _
theorem rg_or (x y : Int) : rg (zor x y) := rg_to _
theorem zlt_iff {x y : Int} (hx : rg x) (hy : rg y) : zlt x y ↔ x < y := by
  unfold zlt
  rw [Int32.lt_iff_toInt_lt, of_rg hx, of_rg hy]
theorem zle_iff {x y : Int} (hx : rg x) (hy : rg y) : zle x y ↔ x ≤ y := by
  unfold zle
  rw [Int32.le_iff_toInt_le, of_rg hx, of_rg hy]
theorem zeq_iff {x y : Int} (hx : rg x) (hy : rg y) : zeq x y ↔ x = y := by
  unfold zeq
  constructor
  · intro h
    rw [← of_rg hx, ← of_rg hy, h]
  · intro h
    rw [h]
theorem ofInt_add' (x y : Int) : Int32.ofInt x + Int32.ofInt y = Int32.ofInt (x + y) := (Int32.ofInt_add x y).symm
theorem zadd_eq {x y : Int} (h1 : -2147483648 ≤ x + y) (h2 : x + y ≤ 2147483647) : zadd x y = x + y := by
  unfold zadd
  rw [← Int32.ofInt_add, of_rg ⟨h1, h2⟩]
theorem zsub_eq {x y : Int} (h1 : -2147483648 ≤ x - y) (h2 : x - y ≤ 2147483647) : zsub x y = x - y := by
  unfold zsub
  rw [← Int32.ofInt_sub, of_rg ⟨h1, h2⟩]
theorem zmul_eq {x y : Int} (h1 : -2147483648 ≤ x * y) (h2 : x * y ≤ 2147483647) : zmul x y = x * y := by
  unfold zmul
  rw [← Int32.ofInt_mul, of_rg ⟨h1, h2⟩]
theorem zdiv_eq {x y : Int} (hx : rg x) (hy : rg y) (h0 : 0 ≤ x) (h1 : 0 < y) : zdiv x y = x / y := by
  unfold zdiv
  have hn : Int32.ofInt y ≠ -1 := by
    intro h
    have := congrArg Int32.toInt h
    rw [of_rg hy] at this
    have e : (-1 : Int32).toInt = -1 := by decide
    rw [e] at this
    omega
  rw [Int32.toInt_div_of_ne_right _ _ hn, of_rg hx, of_rg hy]
  exact Int.tdiv_eq_ediv_of_nonneg h0
theorem zrem_eq {x y : Int} (hx : rg x) (hy : rg y) (h0 : 0 ≤ x) (h1 : 0 < y) : zrem x y = x % y := by
  have hd := zdiv_eq hx hy h0 h1
  unfold zdiv at hd
  unfold zrem
  have e : Int32.ofInt x - Int32.ofInt x / Int32.ofInt y * Int32.ofInt y = Int32.ofInt (x - x / y * y) := by
    rw [Int32.ofInt_sub, Int32.ofInt_mul, ← hd, Int32.ofInt_toInt]
  have hm : x - x / y * y = x % y := by
    have := Int.emod_add_mul_ediv x y
    rw [Int.mul_comm] at this
    omega
  rw [e, hm]
  have h2 := Int.emod_lt_of_pos x h1
  have h3 := Int.emod_nonneg x (by omega : y ≠ 0)
  have := hy.2
  exact of_rg ⟨by omega, by omega⟩
theorem zmax_eq {x y : Int} (hx : rg x) (hy : rg y) : zmax x y = if x < y then y else x := by
  unfold zmax
  simp only [zlt_iff hx hy]
theorem zmin_eq {x y : Int} (hx : rg x) (hy : rg y) : zmin x y = if y < x then y else x := by
  unfold zmin
  simp only [zlt_iff hy hx]
