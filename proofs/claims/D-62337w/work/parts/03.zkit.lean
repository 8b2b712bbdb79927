/-! A layer over the kit: abstract heaps (lists of cells), abstract ints, one row an instruction -/
-- a cell: kind (class number below 20; 20 int[], 21 boolean[], 22.. arrays of references), ints, references (0: null)
abbrev zCel : Type := Nat × List Int × List Nat
abbrev zHp : Type := List zCel
def zi (x : Int) : Value := .int (Int32.ofInt x)
def zo (n0 r : Nat) : Option Nat := match r with
  | 0 => none
  | r + 1 => some (n0 + r)
def zv (n0 r : Nat) : Value := va_rf (zo n0 r)
theorem zi_cat (x : Int) : (zi x).category = 1 := rfl
theorem zv_cat (n0 r : Nat) : (zv n0 r).category = 1 := by cases r <;> rfl
def zE (D : va_G) (n0 : Nat) (c : zCel) : va_E :=
  if c.1 < 20 then .inr (c.1, c.2.1.map zi ++ c.2.2.map (zv n0))
  else if c.1 < 22 then .inl (D.1 c.1, c.2.1.length, .inl (fun j => Int32.ofInt (c.2.1.getD j 0)))
  else .inl (D.1 c.1, c.2.2.length, .inr (.inr (.inr (.inr (fun j => zo n0 (c.2.2.getD j 0))))))
def zW (D : va_G) (n0 : Nat) (M : zHp) : va_W := M.mapIdx (fun i c => (n0 + i, zE D n0 c))
def zwf (M : zHp) : Prop := ∀ (i : Nat) (c : zCel), M[i]? = some c → c.1 < 20 → c.2.1.length = zni c.1 ∧ c.2.2.length = znr c.1
def zR (D : va_G) (n0 : Nat) (M : zHp) (H : Heap) : Prop := va_P D zcl (zW D n0 M) H ∧ H.size = n0 + M.length ∧ zwf M
theorem zW_get {D : va_G} {n0 : Nat} {M : zHp} {i : Nat} {c : zCel} (h : M[i]? = some c) : (zW D n0 M)[i]? = some (n0 + i, zE D n0 c) := by
  unfold zW
  rw [List.getElem?_mapIdx, h]
  rfl
theorem zW_inv {D : va_G} {n0 : Nat} {M : zHp} {i : Nat} {q : Nat × va_E} (h : (zW D n0 M)[i]? = some q) : ∃ c, M[i]? = some c ∧ q = (n0 + i, zE D n0 c) := by
  unfold zW at h
  rw [List.getElem?_mapIdx] at h
  cases hM : M[i]? with
  | none => rw [hM] at h; cases h
  | some c => rw [hM] at h; exact ⟨c, rfl, (Option.some.inj h).symm⟩
theorem zW_set {D : va_G} {n0 : Nat} {M : zHp} {i : Nat} {c : zCel} : zW D n0 (M.set i c) = (zW D n0 M).set i (n0 + i, zE D n0 c) := by
  apply List.ext_getElem?
  intro j
  unfold zW
  rw [List.getElem?_mapIdx, List.getElem?_set, List.getElem?_set, List.getElem?_mapIdx, List.length_mapIdx]
  by_cases hj : i = j
  · subst hj
    by_cases hl : i < M.length
    · simp [hl]
    · simp [hl]
  · simp [hj]
theorem zW_push {D : va_G} {n0 : Nat} {M : zHp} {c : zCel} : zW D n0 (M ++ [c]) = zW D n0 M ++ [(n0 + M.length, zE D n0 c)] := by
  unfold zW
  rw [List.mapIdx_append]
  simp
theorem zD {D : va_G} {n0 : Nat} {M : zHp} : va_D (fun q => n0 ≤ q) (zW D n0 M) := by
  refine ⟨fun i j p q hi hj hpq => ?_, fun k q hk => ?_⟩
  · obtain ⟨c, -, rfl⟩ := zW_inv hi
    obtain ⟨d, -, rfl⟩ := zW_inv hj
    have : n0 + i = n0 + j := hpq
    omega
  · obtain ⟨c, -, rfl⟩ := zW_inv hk
    exact Nat.le_add_right _ _
-- look up and put, by abstract references
def zg (M : zHp) (r : Nat) : Option zCel := match r with
  | 0 => none
  | r + 1 => M[r]?
def zput (M : zHp) (r : Nat) (c : zCel) : zHp := M.set (r - 1) c
def zk (M : zHp) (r : Nat) : Nat := match zg M r with
  | some c => c.1
  | none => 99
def gI (M : zHp) (ci r k : Nat) : Option Int := match zg M r with
  | some c => if c.1 = ci then c.2.1[k]? else none
  | none => none
def gR (M : zHp) (ci r k : Nat) : Option Nat := match zg M r with
  | some c => if c.1 = ci then c.2.2[k]? else none
  | none => none
def pI (M : zHp) (ci r k : Nat) (x : Int) : Option zHp := match zg M r with
  | some c => if c.1 = ci then some (zput M r (c.1, c.2.1.set k x, c.2.2)) else none
  | none => none
def pR (M : zHp) (ci r k : Nat) (x : Nat) : Option zHp := match zg M r with
  | some c => if c.1 = ci then some (zput M r (c.1, c.2.1, c.2.2.set k x)) else none
  | none => none
def ldI (M : zHp) (kd r : Nat) (i : Int) : Option Int := match zg M r with
  | some c => if c.1 = kd ∧ 0 ≤ i ∧ i < 4096 then c.2.1[i.toNat]? else none
  | none => none
def ldR (M : zHp) (kd r : Nat) (i : Int) : Option Nat := match zg M r with
  | some c => if c.1 = kd ∧ 0 ≤ i ∧ i < 4096 then c.2.2[i.toNat]? else none
  | none => none
def stI (M : zHp) (kd r : Nat) (i x : Int) : Option zHp := match zg M r with
  | some c => if c.1 = kd ∧ 0 ≤ i ∧ i < 4096 ∧ i.toNat < c.2.1.length then some (zput M r (c.1, c.2.1.set i.toNat x, c.2.2)) else none
  | none => none
/-- a boolean: 0 or 1 -/
def zbl (x : Int) : Bool := x == 0 || x == 1
def stZ (M : zHp) (kd r : Nat) (i x : Int) : Option zHp := if zbl x = true then stI M kd r i x else none
def pZ (M : zHp) (ci r k : Nat) (x : Int) : Option zHp := if zbl x = true then pI M ci r k x else none
/-- which kinds an array of references takes -/
def ztk (kd k : Nat) : Bool := match kd with
  | 22 => k == 1
  | 23 => k == 4
  | 24 => k == 5
  | 25 => k == 6
  | 26 => k == 3 || k == 5 || k == 6 || k == 7
  | _ => false
def stR (M : zHp) (kd r : Nat) (i : Int) (x : Nat) : Option zHp := match zg M r with
  | some c => if c.1 = kd ∧ 0 ≤ i ∧ i < 4096 ∧ i.toNat < c.2.2.length ∧ (x = 0 ∨ ztk kd (zk M x) = true) then some (zput M r (c.1, c.2.1, c.2.2.set i.toNat x)) else none
  | none => none
def zlen (M : zHp) (r : Nat) : Option Int := match zg M r with
  | some c => if c.1 = 20 ∨ c.1 = 21 then some (Int.ofNat c.2.1.length) else if 20 ≤ c.1 ∧ c.1 ≤ 26 then some (Int.ofNat c.2.2.length) else none
  | none => none
-- new cells
def znO (M : zHp) (ci : Nat) : zHp := M ++ [(ci, List.replicate (zni ci) 0, List.replicate (znr ci) 0)]
def znI (M : zHp) (kd : Nat) (n : Int) : zHp := M ++ [(kd, List.replicate n.toNat 0, [])]
def znR (M : zHp) (kd : Nat) (n : Int) : zHp := M ++ [(kd, [], List.replicate n.toNat 0)]
def zsz (M : zHp) : Nat := M.length + 1
-- arithmetic
def zadd (x y : Int) : Int := (Int32.ofInt x + Int32.ofInt y).toInt
def zsub (x y : Int) : Int := (Int32.ofInt x - Int32.ofInt y).toInt
def zmul (x y : Int) : Int := (Int32.ofInt x * Int32.ofInt y).toInt
def zdiv (x y : Int) : Int := (Int32.ofInt x / Int32.ofInt y).toInt
def zrem (x y : Int) : Int := (Int32.ofInt x - Int32.ofInt x / Int32.ofInt y * Int32.ofInt y).toInt
def zshl (x y : Int) : Int := (Int32.ofInt x <<< (Int32.ofInt y &&& 31)).toInt
def zshr (x y : Int) : Int := (Int32.ofInt x >>> (Int32.ofInt y &&& 31)).toInt
def zand (x y : Int) : Int := (Int32.ofInt x &&& Int32.ofInt y).toInt
def zor (x y : Int) : Int := (Int32.ofInt x ||| Int32.ofInt y).toInt
abbrev zlt (x y : Int) : Prop := Int32.ofInt x < Int32.ofInt y
abbrev zeq (x y : Int) : Prop := Int32.ofInt x = Int32.ofInt y
abbrev zle (x y : Int) : Prop := Int32.ofInt x ≤ Int32.ofInt y
theorem zi_of (x : Int32) : Value.int x = zi x.toInt := by unfold zi; rw [Int32.ofInt_toInt]
-- the tables' words, as what holds of a state
def zgood : Cond → Bool
  | .fieldLinkNest .. => true
  | .methodLinkNest .. => true
  | .castable .. => true
  | .arrayOver (.object _) => true
  | w => goodWord w
def ztb : List Cond := lw_tbl.filter zgood
def zfc (C : String) (n : String) (d : String) : String × MethodName × MethodName := (C, ⟨"LayerVault$Cursor", n, d⟩, ⟨C, n, d⟩)
def zfw : List (String × MethodName × MethodName) := [zfc R_Mt "look" "()LLayerVault$Entry;", zfc R_Lv "look" "()LLayerVault$Entry;", zfc R_Sg "look" "()LLayerVault$Entry;", zfc R_Mg "look" "()LLayerVault$Entry;", zfc R_Mt "step" "()V", zfc R_Lv "step" "()V", zfc R_Sg "step" "()V", zfc R_Mg "step" "()V"]
def zT (U : State) : Prop := (∀ w ∈ ztb, va_Nw w U) ∧ ∀ q ∈ zfw, va_Fw q.1 q.2.1 q.2.2 U
theorem zfw_ok : ∀ q ∈ zfw, q.2.1.cls ≠ "java/lang/invoke/MethodHandle" ∧ q.2.1.cls ≠ "java/lang/invoke/VarHandle" := by decide +kernel
theorem zT.warm {s U : State} (hW : s.WarmedH U.vm) (h : zT s) : zT U := by
  refine ⟨fun w hw => ?_, fun q hq => va_Fw.moved (zfw_ok q hq) hW.alike (h.2 q hq)⟩
  have hg : zgood w = true := (List.mem_filter.mp hw).2
  have h0 := h.1 w hw
  by_cases hgw : goodWord w = true
  · exact word_at hW (good_of_word hgw) h0
  · cases w <;> first | exact absurd hg hgw | exact va_Nw.warmF hW h0 | exact va_Nw.warmM hW h0 | exact va_Nw.warmC hW h0 | skip
    rename_i ty
    cases ty <;> first | exact absurd hg hgw | exact va_AO.moved hW.alike h0
theorem zT.use {args : Array Value} {s : State} (h : zT s) : ∀ w ∈ ztb, w.before args s = true := by
  intro w hw
  have hg : zgood w = true := (List.mem_filter.mp hw).2
  have h0 := h.1 w hw
  by_cases hgw : goodWord w = true
  · exact word_at (State.WarmedH.refl s) (good_of_word hgw) h0
  · cases w <;> first | exact absurd hg hgw | exact va_Nw.use rfl h0 | skip
    rename_i ty
    cases ty <;> first | exact absurd hg hgw | exact va_AO.use h0
theorem zmem (i : Nat) {w : Cond} (h : tables_1[i]? = some w) (hg : zgood w = true) : w ∈ ztb := List.mem_filter.mpr ⟨List.mem_append_right _ (List.mem_of_getElem? h), hg⟩
theorem zmemP (i : Nat) {w : Cond} (h : (k2_sels lw_privs)[i]? = some w) (hg : zgood w = true) : w ∈ ztb := List.mem_filter.mpr ⟨List.mem_append_left _ (List.mem_of_getElem? h), hg⟩
-- the array classes
def zat (k : Nat) : FieldType := match k with
  | 20 => .int
  | 21 => .boolean
  | 22 => .object "LayerVault$Entry"
  | 23 => .object "LayerVault$Table"
  | 24 => .object "LayerVault$Level"
  | 25 => .object "LayerVault$Single"
  | _ => .object "LayerVault$Cursor"
def ztys (D : va_G) : List (ClassId × FieldType) := [20, 21, 22, 23, 24, 25, 26].map (fun k => (D.1 k, zat k))
theorem ztys_at (D : va_G) (k : Nat) (h1 : 20 ≤ k) (h2 : k ≤ 26) : (ztys D)[k - 20]? = some (D.1 k, zat k) := by
  rcases (show k = 20 ∨ k = 21 ∨ k = 22 ∨ k = 23 ∨ k = 24 ∨ k = 25 ∨ k = 26 by omega) with rfl | rfl | rfl | rfl | rfl | rfl | rfl <;> rfl
theorem zlays (ci : Nat) (q : vw_C) (h : zcl[ci]? = some q) : ∀ w ∈ u_ws q.1 q.2.1 q.2.2, w ∈ ztb := by
  intro w hw
  have hg : zgood w = true := by
    obtain ⟨k, -, rfl⟩ := List.mem_map.mp hw
    unfold u_lay
    split <;> rfl
  refine List.mem_filter.mpr ⟨?_, hg⟩
  match ci, h with
  | 0, h => cases h; exact i_V w hw
  | 1, h => cases h; exact i_E w hw
  | 2, h => cases h; exact i_S w hw
  | 3, h => cases h; exact i_Mt w hw
  | 4, h => cases h; exact i_Tb w hw
  | 5, h => cases h; exact i_Lv w hw
  | 6, h => cases h; exact i_Sg w hw
  | 7, h => cases h; exact i_Mg w hw
  | 8, h => cases h; exact i_Md w hw
  | k + 9, h => simp [zcl] at h
theorem ztyok (ci : Nat) (q : vw_C) (h : zcl[ci]? = some q) : ∀ k, k < q.2.2 → parseFieldDescriptor (q.2.1 k).2.2.1 = some (zty ci k) := by
  match ci, h with
  | 0, h => cases h; exact t_V_ok
  | 1, h => cases h; exact t_E_ok
  | 2, h => cases h; exact t_S_ok
  | 3, h => cases h; exact t_Mt_ok
  | 4, h => cases h; exact t_Tb_ok
  | 5, h => cases h; exact t_Lv_ok
  | 6, h => cases h; exact t_Sg_ok
  | 7, h => cases h; exact t_Mg_ok
  | 8, h => cases h; exact t_Md_ok
  | k + 9, h => simp [zcl] at h
theorem znames (ci : Nat) (q : vw_C) (h : zcl[ci]? = some q) : ∀ a, a < q.2.2 → ∀ b, b < q.2.2 → a ≠ b → (q.2.1 a).2.1 ≠ (q.2.1 b).2.1 := by
  match ci, h with
  | 0, h => cases h; exact n_V
  | 1, h => cases h; exact n_E
  | 2, h => cases h; exact n_S
  | 3, h => cases h; exact n_Mt
  | 4, h => cases h; exact n_Tb
  | 5, h => cases h; exact n_Lv
  | 6, h => cases h; exact n_Sg
  | 7, h => cases h; exact n_Mg
  | 8, h => cases h; exact n_Md
  | k + 9, h => simp [zcl] at h
theorem zcl_lt {ci : Nat} {q : vw_C} (h : zcl[ci]? = some q) : ci < 9 := (List.getElem?_eq_some_iff.mp h).1
